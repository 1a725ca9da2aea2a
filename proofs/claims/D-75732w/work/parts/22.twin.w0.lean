theorem fX3_thrown_m {l : Launch} {D : xD} {s0 : State} {b0 : Nat} {Γ : Nat → Option Nat} (G : xG l D s0 b0 Γ) (a0 : Nat) : xMeth l D s0 Γ yX3_thrown (Cond.code yX3_thrown cX3_thrown 1 (some .int)) (1) (12) [.ref a0] xeI (fX3_thrown a0) := by
  refine xMeth.of (lv0 := [(0, va_rf (some a0))]) G (by decide +kernel) (Or.inl rfl) (Nat.le_of_ble_eq_true rfl) rfl (fun x F hnL hRm hmn ht e1 e2 e3 e4 => ?_)
  have hno : ∀ pc, xNo x pc := fun pc z hz => by rw [ht.1 rfl] at hz; cases hz
  unfold fX3_thrown
  refine xr_aload_n 0 (r := (some a0)) F dX3_thrown_0 rfl ?_
  refine xr_gI (r := (some a0)) (ref := "ReserveLedgerModel") F dX3_thrown_1 (C := RX3) (T := TX3) (N := 25) rfl (by decide) (Or.inl q3394) (Or.inl rfl) (fun v1 => ?_)
  exact xr_iret F dX3_thrown_4
theorem fX3_begins_p2_ok {x : xC} (F : xF x RX3 cX3_begins none) (hnL : xnL x = 2) (hRm : ∃ dc ds, x.2.2.2.1 = { frames := 1, cells := dc, slots := ds, locals := 12 }) (hno : ∀ pc, xNo x pc) (hmn : xmn x = "begins" ∧ xmy x yX3_begins) : ∀ (n : Nat) (l0 : Nat) (l1 : Int32), xI x xeV 2 [(0, va_rf (some l0)), (1, .int l1)] [] (fX3_begins_p2 n l0 l1) := by
  intro n
  induction n with
  | zero => intro l0 l1; exact xI.stuck
  | succ n ih =>
    intro l0 l1
    unfold fX3_begins_p2
    refine xr_iload_n 1 F dX3_begins_2 rfl ?_
    refine xr_sipush (592 : Int32) F dX3_begins_3 rfl ?_
    refine xr_icmp_ge 22 F dX3_begins_6 rfl ?_ ?_
    · refine xr_aload_n 0 (r := (some l0)) F dX3_begins_22 rfl ?_
      refine xr_iconst (0 : Int32) F dX3_begins_23 rfl ?_
      refine xr_put (r := (some l0)) (ref := "ReserveLedgerModel") F dX3_begins_24 xk_39 (by decide) (Or.inl q3398) (Or.inl rfl) (Or.inl rfl) ⟨rfl, rfl⟩ ?_
      exact xr_vret F dX3_begins_27
    · refine xr_aload_n 0 (r := (some l0)) F dX3_begins_9 rfl ?_
      refine xr_gR (r := (some l0)) (ref := "ReserveLedgerModel") F dX3_begins_10 (C := RX3) (T := TX3) (N := 25) rfl (by decide) (Or.inl q3395) (Or.inl rfl) (fun v10 => ?_)
      refine xr_iload_n 1 F dX3_begins_13 rfl ?_
      refine xr_iconst (0 : Int32) F dX3_begins_14 rfl ?_
      refine xr_iast (r := v10) F dX3_begins_15 ?_
      refine xs_inc [1, 0] F dX3_begins_16 rfl hnL rfl rfl (xk2 rfl (xrf_cat _) xk0) (fun x1_16 => ?_)
      refine xr_goto 2 F dX3_begins_19 rfl ?_
      exact xI.sub [1, 0] rfl (ih l0 x1_16)
theorem fX3_begins_m {l : Launch} {D : xD} {s0 : State} {b0 : Nat} {Γ : Nat → Option Nat} (G : xG l D s0 b0 Γ) (a0 : Nat) : xMeth l D s0 Γ yX3_begins (Cond.code yX3_begins cX3_begins 2 none) (1) (12) [.ref a0] xeV (fX3_begins a0) := by
  refine xMeth.of (lv0 := [(0, va_rf (some a0))]) G (by decide +kernel) (Or.inl rfl) (Nat.le_of_ble_eq_true rfl) rfl (fun x F hnL hRm hmn ht e1 e2 e3 e4 => ?_)
  have hno : ∀ pc, xNo x pc := fun pc z hz => by rw [ht.1 rfl] at hz; cases hz
  unfold fX3_begins
  refine xr_iconst (0 : Int32) F dX3_begins_0 rfl ?_
  refine xr_letI (fun x1_1 => ?_)
  refine xs_i_n [0] F dX3_begins_1 hnL rfl rfl (xk2 rfl (xrf_cat _) xk0) ?_
  exact xI.sub [1, 0] rfl (fX3_begins_p2_ok F hnL hRm hno hmn xFU a0 x1_1)
theorem fX3_init_m {l : Launch} {D : xD} {s0 : State} {b0 : Nat} {Γ : Nat → Option Nat} (G : xG l D s0 b0 Γ) (a0 : Nat) : xMeth l D s0 Γ yX3_init (Cond.code yX3_init cX3_init 1 none) (2) (33) [.ref a0] xeV (fX3_init a0) := by
  refine xMeth.of (lv0 := [(0, va_rf (some a0))]) G (by decide +kernel) (Or.inl rfl) (Nat.le_of_ble_eq_true rfl) rfl (fun x F hnL hRm hmn ht e1 e2 e3 e4 => ?_)
  have hno : ∀ pc, xNo x pc := fun pc z hz => by rw [ht.1 rfl] at hz; cases hz
  unfold fX3_init
  refine xr_aload_n 0 (r := (some a0)) F dX3_init_0 rfl ?_
  refine xr_obj F dX3_init_1 q3388 q200 (q_objcode) (xroom hRm (Nat.le_of_ble_eq_true rfl) (Nat.le_of_ble_eq_true rfl)) (xcat (Nat.le_of_ble_eq_true rfl)) ?_
  refine xr_aload_n 0 (r := (some a0)) F dX3_init_4 rfl ?_
  refine xr_sipush (592 : Int32) F dX3_init_5 rfl ?_
  refine xr_newa F dX3_init_8 rfl (fun _ _ => rfl) (by decide) q1878 (fun v8 => ?_)
  refine xr_put (r := (some a0)) (ref := "ReserveLedgerModel") F dX3_init_10 xk_39 (by decide) (Or.inl q3395) (Or.inl rfl) (Or.inr ⟨rfl, hmn.1, rfl, q3395⟩) (xr_rfa _ _) ?_
  refine xr_aload_n 0 (r := (some a0)) F dX3_init_13 rfl ?_
  refine xr_sipush (592 : Int32) F dX3_init_14 rfl ?_
  refine xr_newa F dX3_init_17 rfl (fun _ _ => rfl) (by decide) q1878 (fun v17 => ?_)
  refine xr_put (r := (some a0)) (ref := "ReserveLedgerModel") F dX3_init_19 xk_39 (by decide) (Or.inl q3396) (Or.inl rfl) (Or.inr ⟨rfl, hmn.1, rfl, q3396⟩) (xr_rfa _ _) ?_
  refine xr_aload_n 0 (r := (some a0)) F dX3_init_22 rfl ?_
  refine xr_sipush (4736 : Int32) F dX3_init_23 rfl ?_
  refine xr_newa F dX3_init_26 rfl (fun _ _ => rfl) (by decide) q1878 (fun v26 => ?_)
  refine xr_put (r := (some a0)) (ref := "ReserveLedgerModel") F dX3_init_28 xk_39 (by decide) (Or.inl q3397) (Or.inl rfl) (Or.inr ⟨rfl, hmn.1, rfl, q3397⟩) (xr_rfa _ _) ?_
  refine xr_aload_n 0 (r := (some a0)) F dX3_init_31 rfl ?_
  refine xr_ldc F dX3_init_32 q3389 ?_
  refine xr_newa F dX3_init_34 rfl (fun _ _ => rfl) (by decide) q1878 (fun v34 => ?_)
  refine xr_put (r := (some a0)) (ref := "ReserveLedgerModel") F dX3_init_36 xk_39 (by decide) (Or.inl q3399) (Or.inl rfl) (Or.inr ⟨rfl, hmn.1, rfl, q3399⟩) (xr_rfa _ _) ?_
  refine xr_aload_n 0 (r := (some a0)) F dX3_init_39 rfl ?_
  refine xr_sipush (5604 : Int32) F dX3_init_40 rfl ?_
  refine xr_newa F dX3_init_43 rfl (fun _ _ => rfl) (by decide) q1878 (fun v43 => ?_)
  refine xr_put (r := (some a0)) (ref := "ReserveLedgerModel") F dX3_init_45 xk_39 (by decide) (Or.inl q3400) (Or.inl rfl) (Or.inr ⟨rfl, hmn.1, rfl, q3400⟩) (xr_rfa _ _) ?_
  refine xr_aload_n 0 (r := (some a0)) F dX3_init_48 rfl ?_
  refine xr_sipush (5604 : Int32) F dX3_init_49 rfl ?_
  refine xr_newa F dX3_init_52 rfl (fun _ _ => rfl) (by decide) q1878 (fun v52 => ?_)
  refine xr_put (r := (some a0)) (ref := "ReserveLedgerModel") F dX3_init_54 xk_39 (by decide) (Or.inl q3401) (Or.inl rfl) (Or.inr ⟨rfl, hmn.1, rfl, q3401⟩) (xr_rfa _ _) ?_
  refine xr_aload_n 0 (r := (some a0)) F dX3_init_57 rfl ?_
  refine xr_sipush (1401 : Int32) F dX3_init_58 rfl ?_
  refine xr_newa F dX3_init_61 rfl (fun _ _ => rfl) (by decide) q3470 (fun v61 => ?_)
  refine xr_put (r := (some a0)) (ref := "ReserveLedgerModel") F dX3_init_63 xk_39 (by decide) (Or.inl q3402) (Or.inl rfl) (Or.inr ⟨rfl, hmn.1, rfl, q3402⟩) (xr_rfa _ _) ?_
  refine xr_aload_n 0 (r := (some a0)) F dX3_init_66 rfl ?_
  refine xr_sipush (900 : Int32) F dX3_init_67 rfl ?_
  refine xr_newa F dX3_init_70 rfl (fun _ _ => rfl) (by decide) q301 (fun v70 => ?_)
  refine xr_put (r := (some a0)) (ref := "ReserveLedgerModel") F dX3_init_72 xk_39 (by decide) (Or.inl q3404) (Or.inl rfl) (Or.inr ⟨rfl, hmn.1, rfl, q3404⟩) (xr_rfa _ _) ?_
  refine xr_aload_n 0 (r := (some a0)) F dX3_init_75 rfl ?_
  refine xr_iconst (5 : Int32) F dX3_init_76 rfl ?_
  refine xr_newa F dX3_init_77 rfl (fun _ _ => rfl) (by decide) q1878 (fun v77 => ?_)
  refine xr_put (r := (some a0)) (ref := "ReserveLedgerModel") F dX3_init_79 xk_39 (by decide) (Or.inl q3405) (Or.inl rfl) (Or.inr ⟨rfl, hmn.1, rfl, q3405⟩) (xr_rfa _ _) ?_
  refine xr_aload_n 0 (r := (some a0)) F dX3_init_82 rfl ?_
  refine xr_iconst (-1 : Int32) F dX3_init_83 rfl ?_
  refine xr_put (r := (some a0)) (ref := "ReserveLedgerModel") F dX3_init_84 xk_39 (by decide) (Or.inl q3412) (Or.inl rfl) (Or.inl rfl) ⟨rfl, rfl⟩ ?_
  refine xr_aload_n 0 (r := (some a0)) F dX3_init_87 rfl ?_
  refine xr_iconst (5 : Int32) F dX3_init_88 rfl ?_
  refine xr_newa F dX3_init_89 rfl (fun _ _ => rfl) (by decide) q1878 (fun v89 => ?_)
  refine xr_put (r := (some a0)) (ref := "ReserveLedgerModel") F dX3_init_91 xk_39 (by decide) (Or.inl q3416) (Or.inl rfl) (Or.inr ⟨rfl, hmn.1, rfl, q3416⟩) (xr_rfa _ _) ?_
  refine xr_aload_n 0 (r := (some a0)) F dX3_init_94 rfl ?_
  refine xr_sipush (300 : Int32) F dX3_init_95 rfl ?_
  refine xr_newa F dX3_init_98 rfl (fun _ _ => rfl) (by decide) q301 (fun v98 => ?_)
  refine xr_put (r := (some a0)) (ref := "ReserveLedgerModel") F dX3_init_100 xk_39 (by decide) (Or.inl q3417) (Or.inl rfl) (Or.inr ⟨rfl, hmn.1, rfl, q3417⟩) (xr_rfa _ _) ?_
  refine xr_aload_n 0 (r := (some a0)) F dX3_init_103 rfl ?_
  refine xr_VV (y := yX3_begins) (As := []) (r := (some a0)) F (hno _) dX3_init_104 (fun z => fX3_begins_m (xFG F) z) (Or.inl rfl) (ci := 39) (C := RX3) (T := TX3) rfl q3393 q3390 q3392 qs51 (xroom hRm (Nat.le_of_ble_eq_true rfl) (Nat.le_of_ble_eq_true rfl)) ⟨by decide, by decide⟩ n_X3_begins rfl (xcat (Nat.le_of_ble_eq_true rfl)) (fun _ => ?_)
  exact xr_vret F dX3_init_107
theorem fX3_copies_p3_ok {x : xC} (F : xF x RX3 cX3_copies none) (hnL : xnL x = 6) (hRm : ∃ dc ds, x.2.2.2.1 = { frames := 1, cells := dc, slots := ds, locals := 12 }) (hno : ∀ pc, xNo x pc) (hmn : xmn x = "copies" ∧ xmy x yX3_copies) : ∀ (n : Nat) (l1 : Option Nat) (l2 : Int32) (l3 : Option Nat) (l4 : Int32) (l5 : Int32), xI x xeV 3 [(1, va_rf l1), (2, .int l2), (3, va_rf l3), (4, .int l4), (5, .int l5)] [] (fX3_copies_p3 n l1 l2 l3 l4 l5) := by
  intro n
  induction n with
  | zero => intro l1 l2 l3 l4 l5; exact xI.stuck
  | succ n ih =>
    intro l1 l2 l3 l4 l5
    unfold fX3_copies_p3
    refine xr_iload 4 F dX3_copies_3 rfl ?_
    refine xr_sipush (592 : Int32) F dX3_copies_5 rfl ?_
    refine xr_icmp_ge 30 F dX3_copies_8 rfl ?_ ?_
    · exact xr_vret F dX3_copies_30
    · refine xr_aload_n 2 (r := l3) F dX3_copies_11 rfl ?_
      refine xr_iload 3 F dX3_copies_12 rfl ?_
      refine xr_iload 4 F dX3_copies_14 rfl ?_
      refine xr_iadd F dX3_copies_16 ?_
      refine xr_aload_n 0 (r := l1) F dX3_copies_17 rfl ?_
      refine xr_iload_n 1 F dX3_copies_18 rfl ?_
      refine xr_iload 4 F dX3_copies_19 rfl ?_
      refine xr_iadd F dX3_copies_21 ?_
      refine xr_iald (r := l1) F dX3_copies_22 (fun v22 => ?_)
      refine xr_iast (r := l3) F dX3_copies_23 ?_
      refine xs_inc [4, 0, 1, 2, 3] F dX3_copies_24 rfl hnL rfl rfl (xk1 rfl rfl (xk1 rfl rfl (xk1 rfl rfl (xk2 rfl rfl xk0)))) (fun x5_24 => ?_)
      refine xr_goto 3 F dX3_copies_27 rfl ?_
      exact xI.sub [1, 2, 3, 4, 0] rfl (ih l1 l2 l3 l4 x5_24)
theorem fX3_copies_m {l : Launch} {D : xD} {s0 : State} {b0 : Nat} {Γ : Nat → Option Nat} (G : xG l D s0 b0 Γ) (a0 : Nat) (p0 : Option Nat) (p1 : Int32) (p2 : Option Nat) (p3 : Int32) : xMeth l D s0 Γ yX3_copies (Cond.code yX3_copies cX3_copies 6 none) (1) (12) [.ref a0, va_rf p0, .int p1, va_rf p2, .int p3] xeV (fX3_copies a0 p0 p1 p2 p3) := by
  refine xMeth.of (lv0 := [(0, va_rf (some a0)), (1, va_rf p0), (2, .int p1), (3, va_rf p2), (4, .int p3)]) G (by decide +kernel) (Or.inl rfl) (by simp [lg_sl, xrf_cat, xct_i, xct_l, xct_d, xct_r]) (by simp [lv_args, xrf_cat, xct_i, xct_l, xct_d, xct_r, xrf_some]) (fun x F hnL hRm hmn ht e1 e2 e3 e4 => ?_)
  have hno : ∀ pc, xNo x pc := fun pc z hz => by rw [ht.1 rfl] at hz; cases hz
  unfold fX3_copies
  refine xr_iconst (0 : Int32) F dX3_copies_0 rfl ?_
  refine xr_letI (fun x5_1 => ?_)
  refine xs_i [1, 2, 3, 4] F dX3_copies_1 hnL rfl rfl (xk1 rfl rfl (xk1 rfl rfl (xk1 rfl rfl (xk2 rfl rfl xk0)))) ?_
  exact xI.sub [1, 2, 3, 4, 0] rfl (fX3_copies_p3_ok F hnL hRm hno hmn xFU p0 p1 p2 p3 x5_1)
theorem fX3_undo_m {l : Launch} {D : xD} {s0 : State} {b0 : Nat} {Γ : Nat → Option Nat} (G : xG l D s0 b0 Γ) (a0 : Nat) : xMeth l D s0 Γ yX3_undo (Cond.code yX3_undo cX3_undo 1 (some .int)) (2) (37) [.ref a0] xeI (fX3_undo a0) := by
  refine xMeth.of (lv0 := [(0, va_rf (some a0))]) G (by decide +kernel) (Or.inl rfl) (Nat.le_of_ble_eq_true rfl) rfl (fun x F hnL hRm hmn ht e1 e2 e3 e4 => ?_)
  have hno : ∀ pc, xNo x pc := fun pc z hz => by rw [ht.1 rfl] at hz; cases hz
  unfold fX3_undo
  refine xr_aload_n 0 (r := (some a0)) F dX3_undo_0 rfl ?_
  refine xr_iconst (0 : Int32) F dX3_undo_1 rfl ?_
  refine xr_put (r := (some a0)) (ref := "ReserveLedgerModel") F dX3_undo_2 xk_39 (by decide) (Or.inl q3394) (Or.inl rfl) (Or.inl rfl) ⟨rfl, rfl⟩ ?_
  refine xr_aload_n 0 (r := (some a0)) F dX3_undo_5 rfl ?_
  refine xr_gI (r := (some a0)) (ref := "ReserveLedgerModel") F dX3_undo_6 (C := RX3) (T := TX3) (N := 25) rfl (by decide) (Or.inl q3398) (Or.inl rfl) (fun v6 => ?_)
  refine xr_if_ne 14 F dX3_undo_9 rfl ?_ ?_
  · refine xr_iconst (-1 : Int32) F dX3_undo_12 rfl ?_
    exact xr_iret F dX3_undo_13
  · refine xr_aload_n 0 (r := (some a0)) F dX3_undo_14 rfl ?_
    refine xr_dup F dX3_undo_15 (xrf_cat _) ?_
    refine xr_gI (r := (some a0)) (ref := "ReserveLedgerModel") F dX3_undo_16 (C := RX3) (T := TX3) (N := 25) rfl (by decide) (Or.inl q3398) (Or.inl rfl) (fun v16 => ?_)
    refine xr_iconst (1 : Int32) F dX3_undo_19 rfl ?_
    refine xr_isub F dX3_undo_20 ?_
    refine xr_put (r := (some a0)) (ref := "ReserveLedgerModel") F dX3_undo_21 xk_39 (by decide) (Or.inl q3398) (Or.inl rfl) (Or.inl rfl) ⟨rfl, rfl⟩ ?_
    refine xr_aload_n 0 (r := (some a0)) F dX3_undo_24 rfl ?_
    refine xr_aload_n 0 (r := (some a0)) F dX3_undo_25 rfl ?_
    refine xr_gR (r := (some a0)) (ref := "ReserveLedgerModel") F dX3_undo_26 (C := RX3) (T := TX3) (N := 25) rfl (by decide) (Or.inl q3397) (Or.inl rfl) (fun v26 => ?_)
    refine xr_sipush (592 : Int32) F dX3_undo_29 rfl ?_
    refine xr_aload_n 0 (r := (some a0)) F dX3_undo_32 rfl ?_
    refine xr_gI (r := (some a0)) (ref := "ReserveLedgerModel") F dX3_undo_33 (C := RX3) (T := TX3) (N := 25) rfl (by decide) (Or.inl q3398) (Or.inl rfl) (fun v33 => ?_)
    refine xr_imul F dX3_undo_36 ?_
    refine xr_aload_n 0 (r := (some a0)) F dX3_undo_37 rfl ?_
    refine xr_gR (r := (some a0)) (ref := "ReserveLedgerModel") F dX3_undo_38 (C := RX3) (T := TX3) (N := 25) rfl (by decide) (Or.inl q3395) (Or.inl rfl) (fun v38 => ?_)
    refine xr_iconst (0 : Int32) F dX3_undo_41 rfl ?_
    refine xr_VV (y := yX3_copies) (As := [va_rf v26, .int ((592 : Int32) * v33), va_rf v38, .int (0 : Int32)]) (r := (some a0)) F (hno _) dX3_undo_42 (fun z => fX3_copies_m (xFG F) z v26 ((592 : Int32) * v33) v38 (0 : Int32)) (Or.inl rfl) (ci := 39) (C := RX3) (T := TX3) rfl q3478 q3475 q3477 qs52 (xroom hRm (Nat.le_of_ble_eq_true rfl) (Nat.le_of_ble_eq_true rfl)) ⟨by decide, by decide⟩ n_X3_copies rfl (xcat (Nat.le_of_ble_eq_true rfl)) (fun _ => ?_)
    refine xr_aload_n 0 (r := (some a0)) F dX3_undo_45 rfl ?_
    refine xr_gI (r := (some a0)) (ref := "ReserveLedgerModel") F dX3_undo_46 (C := RX3) (T := TX3) (N := 25) rfl (by decide) (Or.inl q3398) (Or.inl rfl) (fun v46 => ?_)
    exact xr_iret F dX3_undo_49
theorem fX3_undoDepth_m {l : Launch} {D : xD} {s0 : State} {b0 : Nat} {Γ : Nat → Option Nat} (G : xG l D s0 b0 Γ) (a0 : Nat) : xMeth l D s0 Γ yX3_undoDepth (Cond.code yX3_undoDepth cX3_undoDepth 1 (some .int)) (1) (12) [.ref a0] xeI (fX3_undoDepth a0) := by
  refine xMeth.of (lv0 := [(0, va_rf (some a0))]) G (by decide +kernel) (Or.inl rfl) (Nat.le_of_ble_eq_true rfl) rfl (fun x F hnL hRm hmn ht e1 e2 e3 e4 => ?_)
  have hno : ∀ pc, xNo x pc := fun pc z hz => by rw [ht.1 rfl] at hz; cases hz
  unfold fX3_undoDepth
  refine xr_aload_n 0 (r := (some a0)) F dX3_undoDepth_0 rfl ?_
  refine xr_iconst (0 : Int32) F dX3_undoDepth_1 rfl ?_
  refine xr_put (r := (some a0)) (ref := "ReserveLedgerModel") F dX3_undoDepth_2 xk_39 (by decide) (Or.inl q3394) (Or.inl rfl) (Or.inl rfl) ⟨rfl, rfl⟩ ?_
  refine xr_aload_n 0 (r := (some a0)) F dX3_undoDepth_5 rfl ?_
  refine xr_gI (r := (some a0)) (ref := "ReserveLedgerModel") F dX3_undoDepth_6 (C := RX3) (T := TX3) (N := 25) rfl (by decide) (Or.inl q3398) (Or.inl rfl) (fun v6 => ?_)
  exact xr_iret F dX3_undoDepth_9
theorem fX3_append_p60_ok {x : xC} (F : xF x RX3 cX3_append (some .int)) (hnL : xnL x = 7) (hRm : ∃ dc ds, x.2.2.2.1 = { frames := 1, cells := dc, slots := ds, locals := 12 }) (hno : ∀ pc, xNo x pc) (hmn : xmn x = "append" ∧ xmy x yX3_append) : ∀ (n : Nat) (l0 : Nat) (l6 : Int32), xI x xeI 60 [(0, va_rf (some l0)), (6, .int l6)] [] (fX3_append_p60 n l0 l6) := by
  intro n
  induction n with
  | zero => intro l0 l6; exact xI.stuck
  | succ n ih =>
    intro l0 l6
    unfold fX3_append_p60
    refine xr_iload 1 F dX3_append_60 rfl ?_
    refine xr_bipush (20 : Int32) F dX3_append_62 rfl ?_
    refine xr_icmp_ge 106 F dX3_append_64 rfl ?_ ?_
    · refine xr_aload_n 0 (r := (some l0)) F dX3_append_106 rfl ?_
      refine xr_dup F dX3_append_107 (xrf_cat _) ?_
      refine xr_gI (r := (some l0)) (ref := "ReserveLedgerModel") F dX3_append_108 (C := RX3) (T := TX3) (N := 25) rfl (by decide) (Or.inl q3406) (Or.inl rfl) (fun v108 => ?_)
      refine xr_bipush (20 : Int32) F dX3_append_111 rfl ?_
      refine xr_iadd F dX3_append_113 ?_
      refine xr_put (r := (some l0)) (ref := "ReserveLedgerModel") F dX3_append_114 xk_39 (by decide) (Or.inl q3406) (Or.inl rfl) (Or.inl rfl) ⟨rfl, rfl⟩ ?_
      refine xr_aload_n 0 (r := (some l0)) F dX3_append_117 rfl ?_
      refine xr_gI (r := (some l0)) (ref := "ReserveLedgerModel") F dX3_append_118 (C := RX3) (T := TX3) (N := 25) rfl (by decide) (Or.inl q3406) (Or.inl rfl) (fun v118 => ?_)
      exact xr_iret F dX3_append_121
    · refine xr_aload_n 0 (r := (some l0)) F dX3_append_67 rfl ?_
      refine xr_gR (r := (some l0)) (ref := "ReserveLedgerModel") F dX3_append_68 (C := RX3) (T := TX3) (N := 25) rfl (by decide) (Or.inl q3404) (Or.inl rfl) (fun v68 => ?_)
      refine xr_aload_n 0 (r := (some l0)) F dX3_append_71 rfl ?_
      refine xr_gI (r := (some l0)) (ref := "ReserveLedgerModel") F dX3_append_72 (C := RX3) (T := TX3) (N := 25) rfl (by decide) (Or.inl q3406) (Or.inl rfl) (fun v72 => ?_)
      refine xr_iload 1 F dX3_append_75 rfl ?_
      refine xr_iadd F dX3_append_77 ?_
      refine xr_aload_n 0 (r := (some l0)) F dX3_append_78 rfl ?_
      refine xr_gR (r := (some l0)) (ref := "ReserveLedgerModel") F dX3_append_79 (C := RX3) (T := TX3) (N := 25) rfl (by decide) (Or.inl q3405) (Or.inl rfl) (fun v79 => ?_)
      refine xr_iload 1 F dX3_append_82 rfl ?_
      refine xr_iconst (4 : Int32) F dX3_append_84 rfl ?_
      refine xr_idiv F dX3_append_85 ?_
      refine xr_iald (r := v79) F dX3_append_86 (fun v86 => ?_)
      refine xr_bipush (24 : Int32) F dX3_append_87 rfl ?_
      refine xr_bipush (8 : Int32) F dX3_append_89 rfl ?_
      refine xr_iload 1 F dX3_append_91 rfl ?_
      refine xr_iconst (4 : Int32) F dX3_append_93 rfl ?_
      refine xr_irem F dX3_append_94 ?_
      refine xr_imul F dX3_append_95 ?_
      refine xr_isub F dX3_append_96 ?_
      refine xr_ishr F dX3_append_97 ?_
      refine xr_i2b F dX3_append_98 ?_
      refine xr_bast (r := v68) F dX3_append_99 ?_
      refine xs_inc [1, 0] F dX3_append_100 rfl hnL rfl rfl (xk1 rfl rfl xk0) (fun x6_100 => ?_)
      refine xr_goto 60 F dX3_append_103 rfl ?_
      exact xI.sub [1, 0] rfl (ih l0 x6_100)
theorem fX3_append_m {l : Launch} {D : xD} {s0 : State} {b0 : Nat} {Γ : Nat → Option Nat} (G : xG l D s0 b0 Γ) (a0 : Nat) (p0 : Int32) (p1 : Int32) (p2 : Int32) (p3 : Int32) (p4 : Int32) : xMeth l D s0 Γ yX3_append (Cond.code yX3_append cX3_append 7 (some .int)) (1) (12) [.ref a0, .int p0, .int p1, .int p2, .int p3, .int p4] xeI (fX3_append a0 p0 p1 p2 p3 p4) := by
  refine xMeth.of (lv0 := [(0, va_rf (some a0)), (1, .int p0), (2, .int p1), (3, .int p2), (4, .int p3), (5, .int p4)]) G (by decide +kernel) (Or.inl rfl) (Nat.le_of_ble_eq_true rfl) rfl (fun x F hnL hRm hmn ht e1 e2 e3 e4 => ?_)
  have hno : ∀ pc, xNo x pc := fun pc z hz => by rw [ht.1 rfl] at hz; cases hz
  unfold fX3_append
  refine xr_aload_n 0 (r := (some a0)) F dX3_append_0 rfl ?_
  refine xr_iconst (0 : Int32) F dX3_append_1 rfl ?_
  refine xr_put (r := (some a0)) (ref := "ReserveLedgerModel") F dX3_append_2 xk_39 (by decide) (Or.inl q3394) (Or.inl rfl) (Or.inl rfl) ⟨rfl, rfl⟩ ?_
  refine xr_aload_n 0 (r := (some a0)) F dX3_append_5 rfl ?_
  refine xr_gI (r := (some a0)) (ref := "ReserveLedgerModel") F dX3_append_6 (C := RX3) (T := TX3) (N := 25) rfl (by decide) (Or.inl q3406) (Or.inl rfl) (fun v6 => ?_)
  refine xr_bipush (20 : Int32) F dX3_append_9 rfl ?_
  refine xr_iadd F dX3_append_11 ?_
  refine xr_sipush (900 : Int32) F dX3_append_12 rfl ?_
  refine xr_icmp_le 20 F dX3_append_15 rfl ?_ ?_
  · refine xr_aload_n 0 (r := (some a0)) F dX3_append_20 rfl ?_
    refine xr_gR (r := (some a0)) (ref := "ReserveLedgerModel") F dX3_append_21 (C := RX3) (T := TX3) (N := 25) rfl (by decide) (Or.inl q3405) (Or.inl rfl) (fun v21 => ?_)
    refine xr_iconst (0 : Int32) F dX3_append_24 rfl ?_
    refine xr_iload_n 1 F dX3_append_25 rfl ?_
    refine xr_iast (r := v21) F dX3_append_26 ?_
    refine xr_aload_n 0 (r := (some a0)) F dX3_append_27 rfl ?_
    refine xr_gR (r := (some a0)) (ref := "ReserveLedgerModel") F dX3_append_28 (C := RX3) (T := TX3) (N := 25) rfl (by decide) (Or.inl q3405) (Or.inl rfl) (fun v28 => ?_)
    refine xr_iconst (1 : Int32) F dX3_append_31 rfl ?_
    refine xr_iload_n 2 F dX3_append_32 rfl ?_
    refine xr_iast (r := v28) F dX3_append_33 ?_
    refine xr_aload_n 0 (r := (some a0)) F dX3_append_34 rfl ?_
    refine xr_gR (r := (some a0)) (ref := "ReserveLedgerModel") F dX3_append_35 (C := RX3) (T := TX3) (N := 25) rfl (by decide) (Or.inl q3405) (Or.inl rfl) (fun v35 => ?_)
    refine xr_iconst (2 : Int32) F dX3_append_38 rfl ?_
    refine xr_iload_n 3 F dX3_append_39 rfl ?_
    refine xr_iast (r := v35) F dX3_append_40 ?_
    refine xr_aload_n 0 (r := (some a0)) F dX3_append_41 rfl ?_
    refine xr_gR (r := (some a0)) (ref := "ReserveLedgerModel") F dX3_append_42 (C := RX3) (T := TX3) (N := 25) rfl (by decide) (Or.inl q3405) (Or.inl rfl) (fun v42 => ?_)
    refine xr_iconst (3 : Int32) F dX3_append_45 rfl ?_
    refine xr_iload 4 F dX3_append_46 rfl ?_
    refine xr_iast (r := v42) F dX3_append_48 ?_
    refine xr_aload_n 0 (r := (some a0)) F dX3_append_49 rfl ?_
    refine xr_gR (r := (some a0)) (ref := "ReserveLedgerModel") F dX3_append_50 (C := RX3) (T := TX3) (N := 25) rfl (by decide) (Or.inl q3405) (Or.inl rfl) (fun v50 => ?_)
    refine xr_iconst (4 : Int32) F dX3_append_53 rfl ?_
    refine xr_iload 5 F dX3_append_54 rfl ?_
    refine xr_iast (r := v50) F dX3_append_56 ?_
    refine xr_iconst (0 : Int32) F dX3_append_57 rfl ?_
    refine xr_letI (fun x6_58 => ?_)
    refine xs_i [0] F dX3_append_58 hnL rfl rfl (xk1 rfl rfl xk0) ?_
    exact xI.sub [1, 0] rfl (fX3_append_p60_ok F hnL hRm hno hmn xFU a0 x6_58)
  · refine xr_iconst (-1 : Int32) F dX3_append_18 rfl ?_
    exact xr_iret F dX3_append_19
theorem fX3_truncate_m {l : Launch} {D : xD} {s0 : State} {b0 : Nat} {Γ : Nat → Option Nat} (G : xG l D s0 b0 Γ) (a0 : Nat) (p0 : Int32) : xMeth l D s0 Γ yX3_truncate (Cond.code yX3_truncate cX3_truncate 2 (some .boolean)) (1) (12) [.ref a0, .int p0] xeI (fX3_truncate a0 p0) := by
  refine xMeth.of (lv0 := [(0, va_rf (some a0)), (1, .int p0)]) G (by decide +kernel) (Or.inl rfl) (Nat.le_of_ble_eq_true rfl) rfl (fun x F hnL hRm hmn ht e1 e2 e3 e4 => ?_)
  have hno : ∀ pc, xNo x pc := fun pc z hz => by rw [ht.1 rfl] at hz; cases hz
  unfold fX3_truncate
  refine xr_aload_n 0 (r := (some a0)) F dX3_truncate_0 rfl ?_
  refine xr_iconst (0 : Int32) F dX3_truncate_1 rfl ?_
  refine xr_put (r := (some a0)) (ref := "ReserveLedgerModel") F dX3_truncate_2 xk_39 (by decide) (Or.inl q3394) (Or.inl rfl) (Or.inl rfl) ⟨rfl, rfl⟩ ?_
  refine xr_iload_n 1 F dX3_truncate_5 rfl ?_
  refine xr_if_lt 17 F dX3_truncate_6 rfl ?_ ?_
  · refine xr_iconst (0 : Int32) F dX3_truncate_17 rfl ?_
    exact xr_zret F dX3_truncate_18 rfl
  · refine xr_iload_n 1 F dX3_truncate_9 rfl ?_
    refine xr_aload_n 0 (r := (some a0)) F dX3_truncate_10 rfl ?_
    refine xr_gI (r := (some a0)) (ref := "ReserveLedgerModel") F dX3_truncate_11 (C := RX3) (T := TX3) (N := 25) rfl (by decide) (Or.inl q3406) (Or.inl rfl) (fun v11 => ?_)
    refine xr_icmp_le 19 F dX3_truncate_14 rfl ?_ ?_
    · refine xr_aload_n 0 (r := (some a0)) F dX3_truncate_19 rfl ?_
      refine xr_iload_n 1 F dX3_truncate_20 rfl ?_
      refine xr_put (r := (some a0)) (ref := "ReserveLedgerModel") F dX3_truncate_21 xk_39 (by decide) (Or.inl q3406) (Or.inl rfl) (Or.inl rfl) ⟨rfl, rfl⟩ ?_
      refine xr_iconst (1 : Int32) F dX3_truncate_24 rfl ?_
      exact xr_zret F dX3_truncate_25 rfl
    · refine xr_iconst (0 : Int32) F dX3_truncate_17 rfl ?_
      exact xr_zret F dX3_truncate_18 rfl
theorem fX3_errorOffset_m {l : Launch} {D : xD} {s0 : State} {b0 : Nat} {Γ : Nat → Option Nat} (G : xG l D s0 b0 Γ) (a0 : Nat) : xMeth l D s0 Γ yX3_errorOffset (Cond.code yX3_errorOffset cX3_errorOffset 1 (some .int)) (1) (12) [.ref a0] xeI (fX3_errorOffset a0) := by
  refine xMeth.of (lv0 := [(0, va_rf (some a0))]) G (by decide +kernel) (Or.inl rfl) (Nat.le_of_ble_eq_true rfl) rfl (fun x F hnL hRm hmn ht e1 e2 e3 e4 => ?_)
  have hno : ∀ pc, xNo x pc := fun pc z hz => by rw [ht.1 rfl] at hz; cases hz
  unfold fX3_errorOffset
  refine xr_aload_n 0 (r := (some a0)) F dX3_errorOffset_0 rfl ?_
  refine xr_iconst (0 : Int32) F dX3_errorOffset_1 rfl ?_
  refine xr_put (r := (some a0)) (ref := "ReserveLedgerModel") F dX3_errorOffset_2 xk_39 (by decide) (Or.inl q3394) (Or.inl rfl) (Or.inl rfl) ⟨rfl, rfl⟩ ?_
  refine xr_aload_n 0 (r := (some a0)) F dX3_errorOffset_5 rfl ?_
  refine xr_gI (r := (some a0)) (ref := "ReserveLedgerModel") F dX3_errorOffset_6 (C := RX3) (T := TX3) (N := 25) rfl (by decide) (Or.inl q3412) (Or.inl rfl) (fun v6 => ?_)
  exact xr_iret F dX3_errorOffset_9
theorem fX3_errorKind_m {l : Launch} {D : xD} {s0 : State} {b0 : Nat} {Γ : Nat → Option Nat} (G : xG l D s0 b0 Γ) (a0 : Nat) : xMeth l D s0 Γ yX3_errorKind (Cond.code yX3_errorKind cX3_errorKind 1 (some .int)) (1) (12) [.ref a0] xeI (fX3_errorKind a0) := by
  refine xMeth.of (lv0 := [(0, va_rf (some a0))]) G (by decide +kernel) (Or.inl rfl) (Nat.le_of_ble_eq_true rfl) rfl (fun x F hnL hRm hmn ht e1 e2 e3 e4 => ?_)
  have hno : ∀ pc, xNo x pc := fun pc z hz => by rw [ht.1 rfl] at hz; cases hz
  unfold fX3_errorKind
  refine xr_aload_n 0 (r := (some a0)) F dX3_errorKind_0 rfl ?_
  refine xr_iconst (0 : Int32) F dX3_errorKind_1 rfl ?_
  refine xr_put (r := (some a0)) (ref := "ReserveLedgerModel") F dX3_errorKind_2 xk_39 (by decide) (Or.inl q3394) (Or.inl rfl) (Or.inl rfl) ⟨rfl, rfl⟩ ?_
  refine xr_aload_n 0 (r := (some a0)) F dX3_errorKind_5 rfl ?_
  refine xr_gI (r := (some a0)) (ref := "ReserveLedgerModel") F dX3_errorKind_6 (C := RX3) (T := TX3) (N := 25) rfl (by decide) (Or.inl q3413) (Or.inl rfl) (fun v6 => ?_)
  exact xr_iret F dX3_errorKind_9
theorem fX3_at_m {l : Launch} {D : xD} {s0 : State} {b0 : Nat} {Γ : Nat → Option Nat} (G : xG l D s0 b0 Γ) (p0 : Int32) (p1 : Int32) : xMeth l D s0 Γ yX3_at (Cond.code yX3_at cX3_at 2 (some .int)) (1) (12) [.int p0, .int p1] xeI (fX3_at p0 p1) := by
  refine xMeth.of (lv0 := [(0, .int p0), (1, .int p1)]) G (by decide +kernel) (Or.inl rfl) (Nat.le_of_ble_eq_true rfl) rfl (fun x F hnL hRm hmn ht e1 e2 e3 e4 => ?_)
  have hno : ∀ pc, xNo x pc := fun pc z hz => by rw [ht.1 rfl] at hz; cases hz
  unfold fX3_at
  refine xr_bipush (64 : Int32) F dX3_at_0 rfl ?_
  refine xr_sipush (132 : Int32) F dX3_at_2 rfl ?_
  refine xr_iload_n 0 F dX3_at_5 rfl ?_
  refine xr_imul F dX3_at_6 ?_
  refine xr_iadd F dX3_at_7 ?_
  refine xr_iload_n 1 F dX3_at_8 rfl ?_
  refine xr_iadd F dX3_at_9 ?_
  exact xr_iret F dX3_at_10
theorem fJ12_min_2_m {l : Launch} {D : xD} {s0 : State} {b0 : Nat} {Γ : Nat → Option Nat} (G : xG l D s0 b0 Γ) (p0 : Int64) (p1 : Int64) : xMeth l D s0 Γ yJ12_min_2 (Cond.code yJ12_min_2 cJ12_min_2 4 (some .long)) (1) (12) [.long p0, .long p1] xeJ (fJ12_min_2 p0 p1) := by
  refine xMeth.of (lv0 := [(0, .long p0), (2, .long p1)]) G (by decide +kernel) (Or.inl rfl) (Nat.le_of_ble_eq_true rfl) rfl (fun x F hnL hRm hmn ht e1 e2 e3 e4 => ?_)
  have hno : ∀ pc, xNo x pc := fun pc z hz => by rw [ht.1 rfl] at hz; cases hz
  unfold fJ12_min_2
  refine xr_lload_n 0 F dJ12_min_2_0 rfl ?_
  refine xr_lload_n 1 F dJ12_min_2_1 rfl ?_
  refine xr_lcmp F dJ12_min_2_2 ?_
  refine xr_if_gt 10 F dJ12_min_2_3 rfl ?_ ?_
  · refine xr_lload_n 1 F dJ12_min_2_10 rfl ?_
    exact xr_lret F dJ12_min_2_11
  · refine xr_lload_n 0 F dJ12_min_2_6 rfl ?_
    refine xr_goto 11 F dJ12_min_2_7 rfl ?_
    exact xr_lret F dJ12_min_2_11
theorem fJ12_max_2_m {l : Launch} {D : xD} {s0 : State} {b0 : Nat} {Γ : Nat → Option Nat} (G : xG l D s0 b0 Γ) (p0 : Int64) (p1 : Int64) : xMeth l D s0 Γ yJ12_max_2 (Cond.code yJ12_max_2 cJ12_max_2 4 (some .long)) (1) (12) [.long p0, .long p1] xeJ (fJ12_max_2 p0 p1) := by
  refine xMeth.of (lv0 := [(0, .long p0), (2, .long p1)]) G (by decide +kernel) (Or.inl rfl) (Nat.le_of_ble_eq_true rfl) rfl (fun x F hnL hRm hmn ht e1 e2 e3 e4 => ?_)
  have hno : ∀ pc, xNo x pc := fun pc z hz => by rw [ht.1 rfl] at hz; cases hz
  unfold fJ12_max_2
  refine xr_lload_n 0 F dJ12_max_2_0 rfl ?_
  refine xr_lload_n 1 F dJ12_max_2_1 rfl ?_
  refine xr_lcmp F dJ12_max_2_2 ?_
  refine xr_if_lt 10 F dJ12_max_2_3 rfl ?_ ?_
  · refine xr_lload_n 1 F dJ12_max_2_10 rfl ?_
    exact xr_lret F dJ12_max_2_11
  · refine xr_lload_n 0 F dJ12_max_2_6 rfl ?_
    refine xr_goto 11 F dJ12_max_2_7 rfl ?_
    exact xr_lret F dJ12_max_2_11
theorem fX3_of_m {l : Launch} {D : xD} {s0 : State} {b0 : Nat} {Γ : Nat → Option Nat} (G : xG l D s0 b0 Γ) (a0 : Nat) (p0 : Int32) (p1 : Int32) : xMeth l D s0 Γ yX3_of (Cond.code yX3_of cX3_of 3 (some .int)) (2) (33) [.ref a0, .int p0, .int p1] xeI (fX3_of a0 p0 p1) := by
  refine xMeth.of (lv0 := [(0, va_rf (some a0)), (1, .int p0), (2, .int p1)]) G (by decide +kernel) (Or.inl rfl) (Nat.le_of_ble_eq_true rfl) rfl (fun x F hnL hRm hmn ht e1 e2 e3 e4 => ?_)
  have hno : ∀ pc, xNo x pc := fun pc z hz => by rw [ht.1 rfl] at hz; cases hz
  unfold fX3_of
  refine xr_aload_n 0 (r := (some a0)) F dX3_of_0 rfl ?_
  refine xr_gR (r := (some a0)) (ref := "ReserveLedgerModel") F dX3_of_1 (C := RX3) (T := TX3) (N := 25) rfl (by decide) (Or.inl q3395) (Or.inl rfl) (fun v1 => ?_)
  refine xr_iload_n 1 F dX3_of_4 rfl ?_
  refine xr_iload_n 2 F dX3_of_5 rfl ?_
  refine xr_SI (y := yX3_at) (As := [.int p0, .int p1]) F (hno _) dX3_of_6 (fX3_at_m (xFG F) p0 p1) (Or.inl rfl) q3565 q144 (Or.inl q3563) q3564 (xroom hRm (Nat.le_of_ble_eq_true rfl) (Nat.le_of_ble_eq_true rfl)) ⟨by decide, by decide⟩ n_X3_at rfl (xcat (Nat.le_of_ble_eq_true rfl)) (fun v6 => ?_)
  refine xr_iald (r := v1) F dX3_of_9 (fun v9 => ?_)
  exact xr_iret F dX3_of_10
theorem fX3_oldest_m {l : Launch} {D : xD} {s0 : State} {b0 : Nat} {Γ : Nat → Option Nat} (G : xG l D s0 b0 Γ) (a0 : Nat) (p0 : Int32) : xMeth l D s0 Γ yX3_oldest (Cond.code yX3_oldest cX3_oldest 2 (some .int)) (3) (55) [.ref a0, .int p0] xeI (fX3_oldest a0 p0) := by
  refine xMeth.of (lv0 := [(0, va_rf (some a0)), (1, .int p0)]) G (by decide +kernel) (Or.inl rfl) (Nat.le_of_ble_eq_true rfl) rfl (fun x F hnL hRm hmn ht e1 e2 e3 e4 => ?_)
  have hno : ∀ pc, xNo x pc := fun pc z hz => by rw [ht.1 rfl] at hz; cases hz
  unfold fX3_oldest
  refine xr_aload_n 0 (r := (some a0)) F dX3_oldest_0 rfl ?_
  refine xr_iload_n 1 F dX3_oldest_1 rfl ?_
  refine xr_iconst (1 : Int32) F dX3_oldest_2 rfl ?_
  refine xr_VI (y := yX3_of) (As := [.int p0, .int (1 : Int32)]) (r := (some a0)) F (hno _) dX3_oldest_3 (fun z => fX3_of_m (xFG F) z p0 (1 : Int32)) (Or.inl rfl) (ci := 39) (C := RX3) (T := TX3) rfl q3562 q3559 q3561 qs65 (xroom hRm (Nat.le_of_ble_eq_true rfl) (Nat.le_of_ble_eq_true rfl)) ⟨by decide, by decide⟩ n_X3_of rfl (xcat (Nat.le_of_ble_eq_true rfl)) (fun v3 => ?_)
  exact xr_iret F dX3_oldest_6
theorem fX3_cohortOf_m {l : Launch} {D : xD} {s0 : State} {b0 : Nat} {Γ : Nat → Option Nat} (G : xG l D s0 b0 Γ) (a0 : Nat) (p0 : Int32) (p1 : Int32) : xMeth l D s0 Γ yX3_cohortOf (Cond.code yX3_cohortOf cX3_cohortOf 3 (some .int)) (3) (55) [.ref a0, .int p0, .int p1] xeI (fX3_cohortOf a0 p0 p1) := by
  refine xMeth.of (lv0 := [(0, va_rf (some a0)), (1, .int p0), (2, .int p1)]) G (by decide +kernel) (Or.inl rfl) (Nat.le_of_ble_eq_true rfl) rfl (fun x F hnL hRm hmn ht e1 e2 e3 e4 => ?_)
  have hno : ∀ pc, xNo x pc := fun pc z hz => by rw [ht.1 rfl] at hz; cases hz
  unfold fX3_cohortOf
  refine xr_aload_n 0 (r := (some a0)) F dX3_cohortOf_0 rfl ?_
  refine xr_iload_n 1 F dX3_cohortOf_1 rfl ?_
  refine xr_bipush (39 : Int32) F dX3_cohortOf_2 rfl ?_
  refine xr_iload_n 2 F dX3_cohortOf_4 rfl ?_
  refine xr_iadd F dX3_cohortOf_5 ?_
  refine xr_VI (y := yX3_of) (As := [.int p0, .int ((39 : Int32) + p1)]) (r := (some a0)) F (hno _) dX3_cohortOf_6 (fun z => fX3_of_m (xFG F) z p0 ((39 : Int32) + p1)) (Or.inl rfl) (ci := 39) (C := RX3) (T := TX3) rfl q3562 q3559 q3561 qs65 (xroom hRm (Nat.le_of_ble_eq_true rfl) (Nat.le_of_ble_eq_true rfl)) ⟨by decide, by decide⟩ n_X3_of rfl (xcat (Nat.le_of_ble_eq_true rfl)) (fun v6 => ?_)
  exact xr_iret F dX3_cohortOf_9
theorem fX3_totalOf_p4_ok {x : xC} (F : xF x RX3 cX3_totalOf (some .int)) (hnL : xnL x = 4) (hRm : ∃ dc ds, x.2.2.2.1 = { frames := 4, cells := dc, slots := ds, locals := 77 }) (hno : ∀ pc, xNo x pc) (hmn : xmn x = "totalOf" ∧ xmy x yX3_totalOf) : ∀ (n : Nat) (l0 : Nat) (l1 : Int32) (l2 : Int32) (l3 : Int32), xI x xeI 4 [(0, va_rf (some l0)), (1, .int l1), (2, .int l2), (3, .int l3)] [] (fX3_totalOf_p4 n l0 l1 l2 l3) := by
  intro n
  induction n with
  | zero => intro l0 l1 l2 l3; exact xI.stuck
  | succ n ih =>
    intro l0 l1 l2 l3
    unfold fX3_totalOf_p4
    refine xr_iload_n 3 F dX3_totalOf_4 rfl ?_
    refine xr_aload_n 0 (r := (some l0)) F dX3_totalOf_5 rfl ?_
    refine xr_iload_n 1 F dX3_totalOf_6 rfl ?_
    refine xr_VI (y := yX3_oldest) (As := [.int l1]) (r := (some l0)) F (hno _) dX3_totalOf_7 (fun z => fX3_oldest_m (xFG F) z l1) (Or.inl rfl) (ci := 39) (C := RX3) (T := TX3) rfl q3583 q3580 q3582 qs68 (xroom hRm (Nat.le_of_ble_eq_true rfl) (Nat.le_of_ble_eq_true rfl)) ⟨by decide, by decide⟩ n_X3_oldest rfl (xcat (Nat.le_of_ble_eq_true rfl)) (fun v7 => ?_)
    refine xr_icmp_gt 28 F dX3_totalOf_10 rfl ?_ ?_
    · refine xr_iload_n 2 F dX3_totalOf_28 rfl ?_
      exact xr_iret F dX3_totalOf_29
    · refine xr_iload_n 2 F dX3_totalOf_13 rfl ?_
      refine xr_aload_n 0 (r := (some l0)) F dX3_totalOf_14 rfl ?_
      refine xr_iload_n 1 F dX3_totalOf_15 rfl ?_
      refine xr_iload_n 3 F dX3_totalOf_16 rfl ?_
      refine xr_VI (y := yX3_cohortOf) (As := [.int l1, .int l3]) (r := (some l0)) F (hno _) dX3_totalOf_17 (fun z => fX3_cohortOf_m (xFG F) z l1 l3) (Or.inl rfl) (ci := 39) (C := RX3) (T := TX3) rfl q3650 q3647 q3649 qs83 (xroom hRm (Nat.le_of_ble_eq_true rfl) (Nat.le_of_ble_eq_true rfl)) ⟨by decide, by decide⟩ n_X3_cohortOf rfl (xcat (Nat.le_of_ble_eq_true rfl)) (fun v17 => ?_)
      refine xr_iadd F dX3_totalOf_20 ?_
      refine xr_letI (fun x2_21 => ?_)
      refine xs_i_n [0, 1, 3] F dX3_totalOf_21 hnL rfl rfl (xk1 rfl rfl (xk2 rfl rfl (xk1 rfl rfl xk0))) ?_
      refine xs_inc [3, 0, 1, 2] F dX3_totalOf_22 rfl hnL rfl rfl (xk2 rfl rfl (xk1 rfl rfl (xk1 rfl rfl xk0))) (fun x3_22 => ?_)
      refine xr_goto 4 F dX3_totalOf_25 rfl ?_
      exact xI.sub [2, 3, 1, 0] rfl (ih l0 l1 x2_21 x3_22)
theorem fX3_totalOf_m {l : Launch} {D : xD} {s0 : State} {b0 : Nat} {Γ : Nat → Option Nat} (G : xG l D s0 b0 Γ) (a0 : Nat) (p0 : Int32) : xMeth l D s0 Γ yX3_totalOf (Cond.code yX3_totalOf cX3_totalOf 4 (some .int)) (4) (77) [.ref a0, .int p0] xeI (fX3_totalOf a0 p0) := by
  refine xMeth.of (lv0 := [(0, va_rf (some a0)), (1, .int p0)]) G (by decide +kernel) (Or.inl rfl) (Nat.le_of_ble_eq_true rfl) rfl (fun x F hnL hRm hmn ht e1 e2 e3 e4 => ?_)
  have hno : ∀ pc, xNo x pc := fun pc z hz => by rw [ht.1 rfl] at hz; cases hz
  unfold fX3_totalOf
  refine xr_iconst (0 : Int32) F dX3_totalOf_0 rfl ?_
  refine xr_letI (fun x2_1 => ?_)
  refine xs_i_n [0, 1] F dX3_totalOf_1 hnL rfl rfl (xk1 rfl rfl (xk2 rfl rfl xk0)) ?_
  refine xr_iconst (0 : Int32) F dX3_totalOf_2 rfl ?_
  refine xr_letI (fun x3_3 => ?_)
  refine xs_i_n [0, 1, 2] F dX3_totalOf_3 hnL rfl rfl (xk2 rfl rfl (xk1 rfl rfl (xk1 rfl rfl xk0))) ?_
  exact xI.sub [2, 3, 1, 0] rfl (fX3_totalOf_p4_ok F hnL hRm hno hmn xFU a0 p0 x2_1 x3_3)
theorem fX3_adultsOf_p9_ok {x : xC} (F : xF x RX3 cX3_adultsOf (some .int)) (hnL : xnL x = 4) (hRm : ∃ dc ds, x.2.2.2.1 = { frames := 4, cells := dc, slots := ds, locals := 77 }) (hno : ∀ pc, xNo x pc) (hmn : xmn x = "adultsOf" ∧ xmy x yX3_adultsOf) : ∀ (n : Nat) (l0 : Nat) (l1 : Int32) (l2 : Int32) (l3 : Int32), xI x xeI 9 [(0, va_rf (some l0)), (1, .int l1), (2, .int l2), (3, .int l3)] [] (fX3_adultsOf_p9 n l0 l1 l2 l3) := by
  intro n
  induction n with
  | zero => intro l0 l1 l2 l3; exact xI.stuck
  | succ n ih =>
    intro l0 l1 l2 l3
    unfold fX3_adultsOf_p9
    refine xr_iload_n 3 F dX3_adultsOf_9 rfl ?_
    refine xr_aload_n 0 (r := (some l0)) F dX3_adultsOf_10 rfl ?_
    refine xr_iload_n 1 F dX3_adultsOf_11 rfl ?_
    refine xr_VI (y := yX3_oldest) (As := [.int l1]) (r := (some l0)) F (hno _) dX3_adultsOf_12 (fun z => fX3_oldest_m (xFG F) z l1) (Or.inl rfl) (ci := 39) (C := RX3) (T := TX3) rfl q3583 q3580 q3582 qs68 (xroom hRm (Nat.le_of_ble_eq_true rfl) (Nat.le_of_ble_eq_true rfl)) ⟨by decide, by decide⟩ n_X3_oldest rfl (xcat (Nat.le_of_ble_eq_true rfl)) (fun v12 => ?_)
    refine xr_icmp_gt 33 F dX3_adultsOf_15 rfl ?_ ?_
    · refine xr_iload_n 2 F dX3_adultsOf_33 rfl ?_
      exact xr_iret F dX3_adultsOf_34
    · refine xr_iload_n 2 F dX3_adultsOf_18 rfl ?_
      refine xr_aload_n 0 (r := (some l0)) F dX3_adultsOf_19 rfl ?_
      refine xr_iload_n 1 F dX3_adultsOf_20 rfl ?_
      refine xr_iload_n 3 F dX3_adultsOf_21 rfl ?_
      refine xr_VI (y := yX3_cohortOf) (As := [.int l1, .int l3]) (r := (some l0)) F (hno _) dX3_adultsOf_22 (fun z => fX3_cohortOf_m (xFG F) z l1 l3) (Or.inl rfl) (ci := 39) (C := RX3) (T := TX3) rfl q3650 q3647 q3649 qs83 (xroom hRm (Nat.le_of_ble_eq_true rfl) (Nat.le_of_ble_eq_true rfl)) ⟨by decide, by decide⟩ n_X3_cohortOf rfl (xcat (Nat.le_of_ble_eq_true rfl)) (fun v22 => ?_)
      refine xr_iadd F dX3_adultsOf_25 ?_
      refine xr_letI (fun x2_26 => ?_)
      refine xs_i_n [0, 1, 3] F dX3_adultsOf_26 hnL rfl rfl (xk1 rfl rfl (xk2 rfl rfl (xk1 rfl rfl xk0))) ?_
      refine xs_inc [3, 0, 1, 2] F dX3_adultsOf_27 rfl hnL rfl rfl (xk2 rfl rfl (xk1 rfl rfl (xk1 rfl rfl xk0))) (fun x3_27 => ?_)
      refine xr_goto 9 F dX3_adultsOf_30 rfl ?_
      exact xI.sub [2, 3, 1, 0] rfl (ih l0 l1 x2_26 x3_27)
theorem fX3_adultsOf_m {l : Launch} {D : xD} {s0 : State} {b0 : Nat} {Γ : Nat → Option Nat} (G : xG l D s0 b0 Γ) (a0 : Nat) (p0 : Int32) : xMeth l D s0 Γ yX3_adultsOf (Cond.code yX3_adultsOf cX3_adultsOf 4 (some .int)) (4) (77) [.ref a0, .int p0] xeI (fX3_adultsOf a0 p0) := by
  refine xMeth.of (lv0 := [(0, va_rf (some a0)), (1, .int p0)]) G (by decide +kernel) (Or.inl rfl) (Nat.le_of_ble_eq_true rfl) rfl (fun x F hnL hRm hmn ht e1 e2 e3 e4 => ?_)
  have hno : ∀ pc, xNo x pc := fun pc z hz => by rw [ht.1 rfl] at hz; cases hz
  unfold fX3_adultsOf
  refine xr_iconst (0 : Int32) F dX3_adultsOf_0 rfl ?_
  refine xr_letI (fun x2_1 => ?_)
  refine xs_i_n [0, 1] F dX3_adultsOf_1 hnL rfl rfl (xk1 rfl rfl (xk2 rfl rfl xk0)) ?_
  refine xr_aload_n 1 (r := (some a0)) F dX3_adultsOf_2 rfl ?_
  refine xr_iload_n 2 F dX3_adultsOf_3 rfl ?_
  refine xr_iconst (2 : Int32) F dX3_adultsOf_4 rfl ?_
  refine xr_VI (y := yX3_of) (As := [.int p0, .int (2 : Int32)]) (r := (some a0)) F (hno _) dX3_adultsOf_5 (fun z => fX3_of_m (xFG F) z p0 (2 : Int32)) (Or.inl rfl) (ci := 39) (C := RX3) (T := TX3) rfl q3562 q3559 q3561 qs65 (xroom hRm (Nat.le_of_ble_eq_true rfl) (Nat.le_of_ble_eq_true rfl)) ⟨by decide, by decide⟩ n_X3_of rfl (xcat (Nat.le_of_ble_eq_true rfl)) (fun v5 => ?_)
  refine xs_i_n [0, 1, 2] F dX3_adultsOf_8 hnL rfl rfl (xk2 rfl rfl (xk1 rfl rfl (xk1 rfl rfl xk0))) ?_
  exact xI.sub [2, 3, 1, 0] rfl (fX3_adultsOf_p9_ok F hnL hRm hno hmn xFU a0 p0 x2_1 v5)
theorem fX3_limited_m {l : Launch} {D : xD} {s0 : State} {b0 : Nat} {Γ : Nat → Option Nat} (G : xG l D s0 b0 Γ) (p0 : Int64) : xMeth l D s0 Γ yX3_limited (Cond.code yX3_limited cX3_limited 2 (some .long)) (2) (35) [.long p0] xeJ (fX3_limited p0) := by
  refine xMeth.of (lv0 := [(0, .long p0)]) G (by decide +kernel) (Or.inl rfl) (Nat.le_of_ble_eq_true rfl) rfl (fun x F hnL hRm hmn ht e1 e2 e3 e4 => ?_)
  have hno : ∀ pc, xNo x pc := fun pc z hz => by rw [ht.1 rfl] at hz; cases hz
  unfold fX3_limited
  refine xr_ldc2 F dX3_limited_0 q3662 ?_
  refine xr_ldc2 F dX3_limited_3 q3663 ?_
  refine xr_lload_n 0 F dX3_limited_6 rfl ?_
  refine xr_SJ (y := yJ12_min_2) (As := [.long (1000000000 : Int64), .long p0]) F (hno _) dX3_limited_7 (fJ12_min_2_m (xFG F) (1000000000 : Int64) p0) (Or.inl rfl) q2424 q135 (Or.inl q3664) q2423 (xroom hRm (Nat.le_of_ble_eq_true rfl) (Nat.le_of_ble_eq_true rfl)) ⟨by decide, by decide⟩ n_J12_min_2 rfl (xcat (Nat.le_of_ble_eq_true rfl)) (fun v7 => ?_)
  refine xr_SJ (y := yJ12_max_2) (As := [.long (-1000000000 : Int64), .long v7]) F (hno _) dX3_limited_10 (fJ12_max_2_m (xFG F) (-1000000000 : Int64) v7) (Or.inl rfl) q2430 q135 (Or.inl q3665) q2429 (xroom hRm (Nat.le_of_ble_eq_true rfl) (Nat.le_of_ble_eq_true rfl)) ⟨by decide, by decide⟩ n_J12_max_2 rfl (xcat (Nat.le_of_ble_eq_true rfl)) (fun v10 => ?_)
  exact xr_lret F dX3_limited_13
theorem fX3_worked_p80_ok {x : xC} (F : xF x RX3 cX3_worked (some .long)) (hnL : xnL x = 6) (hRm : ∃ dc ds, x.2.2.2.1 = { frames := 3, cells := dc, slots := ds, locals := 56 }) (hno : ∀ pc, xNo x pc) (hmn : xmn x = "worked" ∧ xmy x yX3_worked) (l2 : Int64) (l4 : Int64) (s0 : Int32) (s1 : Nat) : xI x xeJ 80 [(2, .long l2), (4, .long l4)] [.int s0, va_rf (some s1)] (fX3_worked_p80 l2 l4 s0 s1) := by
  unfold fX3_worked_p80
  refine xr_pN (r := (some s1)) (ref := "ReserveLedgerModel") F dX3_worked_80 xk_39 (by decide) (Or.inl q3403) (Or.inl rfl) (Or.inl rfl) ?_
  refine xr_lload 1 F dX3_worked_83 rfl ?_
  refine xr_lconst 0 F dX3_worked_85 rfl ?_
  refine xr_lcmp F dX3_worked_86 ?_
  refine xr_if_ne 94 F dX3_worked_87 rfl ?_ ?_
  · refine xr_lconst 0 F dX3_worked_90 rfl ?_
    refine xr_goto 101 F dX3_worked_91 rfl ?_
    exact xr_lret F dX3_worked_101
  · refine xr_lload_n 0 F dX3_worked_94 rfl ?_
    refine xr_lload 1 F dX3_worked_95 rfl ?_
    refine xr_ldiv F dX3_worked_97 ?_
    refine xr_SJ (y := yX3_limited) (As := [.long (l2 / l4)]) F (hno _) dX3_worked_98 (fX3_limited_m (xFG F) (l2 / l4)) (Or.inl rfl) q3661 q144 (Or.inl q3659) q3660 (xroom hRm (Nat.le_of_ble_eq_true rfl) (Nat.le_of_ble_eq_true rfl)) ⟨by decide, by decide⟩ n_X3_limited rfl (xcat (Nat.le_of_ble_eq_true rfl)) (fun v98 => ?_)
    exact xr_lret F dX3_worked_101
theorem fX3_worked_p75_ok {x : xC} (F : xF x RX3 cX3_worked (some .long)) (hnL : xnL x = 6) (hRm : ∃ dc ds, x.2.2.2.1 = { frames := 3, cells := dc, slots := ds, locals := 56 }) (hno : ∀ pc, xNo x pc) (hmn : xmn x = "worked" ∧ xmy x yX3_worked) (l2 : Int64) (l4 : Int64) (s0 : Nat) : xI x xeJ 75 [(2, .long l2), (4, .long l4)] [va_rf (some s0)] (fX3_worked_p75 l2 l4 s0) := by
  unfold fX3_worked_p75
  refine xr_iconst (1 : Int32) F dX3_worked_75 rfl ?_
  refine xr_goto 80 F dX3_worked_76 rfl ?_
  exact xI.sub [0, 1] rfl (fX3_worked_p80_ok F hnL hRm hno hmn l2 l4 (1 : Int32) s0)
theorem fX3_worked_m {l : Launch} {D : xD} {s0 : State} {b0 : Nat} {Γ : Nat → Option Nat} (G : xG l D s0 b0 Γ) (a0 : Nat) (p0 : Int32) (p1 : Int64) (p2 : Int64) : xMeth l D s0 Γ yX3_worked (Cond.code yX3_worked cX3_worked 6 (some .long)) (3) (56) [.ref a0, .int p0, .long p1, .long p2] xeJ (fX3_worked a0 p0 p1 p2) := by
  refine xMeth.of (lv0 := [(0, va_rf (some a0)), (1, .int p0), (2, .long p1), (4, .long p2)]) G (by decide +kernel) (Or.inl rfl) (Nat.le_of_ble_eq_true rfl) rfl (fun x F hnL hRm hmn ht e1 e2 e3 e4 => ?_)
  have hno : ∀ pc, xNo x pc := fun pc z hz => by rw [ht.1 rfl] at hz; cases hz
  unfold fX3_worked
  refine xr_iload_n 1 F dX3_worked_0 rfl ?_
  refine xI.split (fun h_0 => ?_) (fun h_0 => ?_)
  · refine xr_tableIn 36 F dX3_worked_1 (by rw [h_0]; decide) (by rw [h_0]; decide) (by rw [h_0]; rfl) rfl ?_
    refine xr_lload_n 2 F dX3_worked_36 rfl ?_
    refine xr_lload 3 F dX3_worked_37 rfl ?_
    refine xr_ladd F dX3_worked_39 ?_
    refine xr_SJ (y := yX3_limited) (As := [.long (p1 + p2)]) F (hno _) dX3_worked_40 (fX3_limited_m (xFG F) (p1 + p2)) (Or.inl rfl) q3661 q144 (Or.inl q3659) q3660 (xroom hRm (Nat.le_of_ble_eq_true rfl) (Nat.le_of_ble_eq_true rfl)) ⟨by decide, by decide⟩ n_X3_limited rfl (xcat (Nat.le_of_ble_eq_true rfl)) (fun v40 => ?_)
    exact xr_lret F dX3_worked_43
  · refine xI.split (fun h_1 => ?_) (fun h_1 => ?_)
    · refine xr_tableIn 44 F dX3_worked_1 (by rw [h_1]; decide) (by rw [h_1]; decide) (by rw [h_1]; rfl) rfl ?_
      refine xr_lload_n 2 F dX3_worked_44 rfl ?_
      refine xr_lload 3 F dX3_worked_45 rfl ?_
      refine xr_lsub F dX3_worked_47 ?_
      refine xr_SJ (y := yX3_limited) (As := [.long (p1 - p2)]) F (hno _) dX3_worked_48 (fX3_limited_m (xFG F) (p1 - p2)) (Or.inl rfl) q3661 q144 (Or.inl q3659) q3660 (xroom hRm (Nat.le_of_ble_eq_true rfl) (Nat.le_of_ble_eq_true rfl)) ⟨by decide, by decide⟩ n_X3_limited rfl (xcat (Nat.le_of_ble_eq_true rfl)) (fun v48 => ?_)
      exact xr_lret F dX3_worked_51
    · refine xI.split (fun h_2 => ?_) (fun h_2 => ?_)
      · refine xr_tableIn 52 F dX3_worked_1 (by rw [h_2]; decide) (by rw [h_2]; decide) (by rw [h_2]; rfl) rfl ?_
        refine xr_lload_n 2 F dX3_worked_52 rfl ?_
        refine xr_lload 3 F dX3_worked_53 rfl ?_
        refine xr_lmul F dX3_worked_55 ?_
        refine xr_SJ (y := yX3_limited) (As := [.long (p1 * p2)]) F (hno _) dX3_worked_56 (fX3_limited_m (xFG F) (p1 * p2)) (Or.inl rfl) q3661 q144 (Or.inl q3659) q3660 (xroom hRm (Nat.le_of_ble_eq_true rfl) (Nat.le_of_ble_eq_true rfl)) ⟨by decide, by decide⟩ n_X3_limited rfl (xcat (Nat.le_of_ble_eq_true rfl)) (fun v56 => ?_)
        exact xr_lret F dX3_worked_59
      · refine xI.split (fun h_3 => ?_) (fun h_3 => ?_)
        · refine xr_tableIn 60 F dX3_worked_1 (by rw [h_3]; decide) (by rw [h_3]; decide) (by rw [h_3]; rfl) rfl ?_
          refine xr_aload_n 0 (r := (some a0)) F dX3_worked_60 rfl ?_
          refine xr_aload_n 0 (r := (some a0)) F dX3_worked_61 rfl ?_
          refine xr_gI (r := (some a0)) (ref := "ReserveLedgerModel") F dX3_worked_62 (C := RX3) (T := TX3) (N := 25) rfl (by decide) (Or.inl q3403) (Or.inl rfl) (fun v62 => ?_)
          refine xr_if_ne 75 F dX3_worked_65 rfl ?_ ?_
          · refine xr_lload 3 F dX3_worked_68 rfl ?_
            refine xr_lconst 0 F dX3_worked_70 rfl ?_
            refine xr_lcmp F dX3_worked_71 ?_
            refine xr_if_ne 79 F dX3_worked_72 rfl ?_ ?_
            · exact xI.sub [2, 3] rfl (fX3_worked_p75_ok F hnL hRm hno hmn p1 p2 a0)
            · refine xr_iconst (0 : Int32) F dX3_worked_79 rfl ?_
              exact xI.sub [2, 3] rfl (fX3_worked_p80_ok F hnL hRm hno hmn p1 p2 (0 : Int32) a0)
          · exact xI.sub [2, 3] rfl (fX3_worked_p75_ok F hnL hRm hno hmn p1 p2 a0)
        · refine xI.split (fun h_4 => ?_) (fun h_4 => ?_)
          · refine xr_tableIn 102 F dX3_worked_1 (by rw [h_4]; decide) (by rw [h_4]; decide) (by rw [h_4]; rfl) rfl ?_
            refine xr_lload_n 2 F dX3_worked_102 rfl ?_
            refine xr_lload 3 F dX3_worked_103 rfl ?_
            refine xr_SJ (y := yJ12_min_2) (As := [.long p1, .long p2]) F (hno _) dX3_worked_105 (fJ12_min_2_m (xFG F) p1 p2) (Or.inl rfl) q2424 q135 (Or.inl q3664) q2423 (xroom hRm (Nat.le_of_ble_eq_true rfl) (Nat.le_of_ble_eq_true rfl)) ⟨by decide, by decide⟩ n_J12_min_2 rfl (xcat (Nat.le_of_ble_eq_true rfl)) (fun v105 => ?_)
            exact xr_lret F dX3_worked_108
          · refine xr_tableOut 109 F dX3_worked_1 (by intro i g1 g2; have g3 : i = 5 ∨ i = 6 ∨ i = 7 ∨ i = 8 ∨ i = 9 := (by omega); rcases g3 with rfl | rfl | rfl | rfl | rfl; all_goals assumption) rfl ?_
            refine xr_lload_n 2 F dX3_worked_109 rfl ?_
            refine xr_lload 3 F dX3_worked_110 rfl ?_
            refine xr_SJ (y := yJ12_max_2) (As := [.long p1, .long p2]) F (hno _) dX3_worked_112 (fJ12_max_2_m (xFG F) p1 p2) (Or.inl rfl) q2430 q135 (Or.inl q3665) q2429 (xroom hRm (Nat.le_of_ble_eq_true rfl) (Nat.le_of_ble_eq_true rfl)) ⟨by decide, by decide⟩ n_J12_max_2 rfl (xcat (Nat.le_of_ble_eq_true rfl)) (fun v112 => ?_)
            exact xr_lret F dX3_worked_115
theorem fX3_valueOf_p166_ok {x : xC} (F : xF x RX3 cX3_valueOf (some .long)) (hnL : xnL x = 6) (hRm : ∃ dc ds, x.2.2.2.1 = { frames := 5, cells := dc, slots := ds, locals := 100 }) (hno : ∀ pc, xNo x pc) (hmn : xmn x = "valueOf" ∧ xmy x yX3_valueOf) {k16 : Nat → Int32 → Int32 → Int32 → Int32 → xM (Int64)} (hk16 : ∀ (l0 : Nat) (l1 : Int32) (l2 : Int32) (l3 : Int32) (l4 : Int32), xI x xeJ 16 [(0, va_rf (some l0)), (1, .int l1), (2, .int l2), (3, .int l3), (4, .int l4)] [] (k16 l0 l1 l2 l3 l4)) (l0 : Nat) (l1 : Int32) (l2 : Int32) (l3 : Int32) (l4 : Int32) : xI x xeJ 166 [(0, va_rf (some l0)), (1, .int l1), (2, .int l2), (3, .int l3), (4, .int l4)] [] (fX3_valueOf_p166 k16 l0 l1 l2 l3 l4) := by
  unfold fX3_valueOf_p166
  refine xs_inc [4, 0, 1, 2, 3] F dX3_valueOf_166 rfl hnL rfl rfl (xk1 rfl rfl (xk1 rfl rfl (xk1 rfl rfl (xk2 rfl rfl xk0)))) (fun x4_166 => ?_)
  refine xr_goto 16 F dX3_valueOf_169 rfl ?_
  exact xI.sub [1, 2, 3, 4, 0] rfl (hk16 l0 l1 l2 l3 x4_166)
theorem fX3_valueOf_p162_ok {x : xC} (F : xF x RX3 cX3_valueOf (some .long)) (hnL : xnL x = 6) (hRm : ∃ dc ds, x.2.2.2.1 = { frames := 5, cells := dc, slots := ds, locals := 100 }) (hno : ∀ pc, xNo x pc) (hmn : xmn x = "valueOf" ∧ xmy x yX3_valueOf) {k16 : Nat → Int32 → Int32 → Int32 → Int32 → xM (Int64)} (hk16 : ∀ (l0 : Nat) (l1 : Int32) (l2 : Int32) (l3 : Int32) (l4 : Int32), xI x xeJ 16 [(0, va_rf (some l0)), (1, .int l1), (2, .int l2), (3, .int l3), (4, .int l4)] [] (k16 l0 l1 l2 l3 l4)) (l0 : Nat) (l1 : Int32) (l2 : Int32) (l3 : Int32) (l4 : Int32) (s0 : Int64) (s1 : Int32) (s2 : Option Nat) : xI x xeJ 162 [(0, va_rf (some l0)), (1, .int l1), (2, .int l2), (3, .int l3), (4, .int l4)] [.long s0, .int s1, va_rf s2] (fX3_valueOf_p162 k16 l0 l1 l2 l3 l4 s0 s1 s2) := by
  unfold fX3_valueOf_p162
  refine xr_last (r := s2) F dX3_valueOf_162 ?_
  refine xs_inc [3, 0, 1, 2, 4] F dX3_valueOf_163 rfl hnL rfl rfl (xk1 rfl rfl (xk1 rfl rfl (xk2 rfl rfl (xk1 rfl rfl xk0)))) (fun x3_163 => ?_)
  exact xI.sub [1, 2, 3, 0, 4] rfl (fX3_valueOf_p166_ok F hnL hRm hno hmn hk16 l0 l1 l2 x3_163 l4)
theorem fX3_valueOf_p86_ok {x : xC} (F : xF x RX3 cX3_valueOf (some .long)) (hnL : xnL x = 6) (hRm : ∃ dc ds, x.2.2.2.1 = { frames := 5, cells := dc, slots := ds, locals := 100 }) (hno : ∀ pc, xNo x pc) (hmn : xmn x = "valueOf" ∧ xmy x yX3_valueOf) {k16 : Nat → Int32 → Int32 → Int32 → Int32 → xM (Int64)} (hk16 : ∀ (l0 : Nat) (l1 : Int32) (l2 : Int32) (l3 : Int32) (l4 : Int32), xI x xeJ 16 [(0, va_rf (some l0)), (1, .int l1), (2, .int l2), (3, .int l3), (4, .int l4)] [] (k16 l0 l1 l2 l3 l4)) (l0 : Nat) (l1 : Int32) (l2 : Int32) (l3 : Int32) (l4 : Int32) (l5 : Int32) : xI x xeJ 86 [(0, va_rf (some l0)), (1, .int l1), (2, .int l2), (3, .int l3), (4, .int l4), (5, .int l5)] [] (fX3_valueOf_p86 k16 l0 l1 l2 l3 l4 l5) := by
  unfold fX3_valueOf_p86
  refine xr_aload_n 0 (r := (some l0)) F dX3_valueOf_86 rfl ?_
  refine xr_gR (r := (some l0)) (ref := "ReserveLedgerModel") F dX3_valueOf_87 (C := RX3) (T := TX3) (N := 25) rfl (by decide) (Or.inl q3402) (Or.inl rfl) (fun v87 => ?_)
  refine xr_iload_n 3 F dX3_valueOf_90 rfl ?_
  refine xr_iload 5 F dX3_valueOf_91 rfl ?_
  refine xr_if_ne 109 F dX3_valueOf_93 rfl ?_ ?_
  · refine xr_aload_n 0 (r := (some l0)) F dX3_valueOf_96 rfl ?_
    refine xr_gR (r := (some l0)) (ref := "ReserveLedgerModel") F dX3_valueOf_97 (C := RX3) (T := TX3) (N := 25) rfl (by decide) (Or.inl q3400) (Or.inl rfl) (fun v97 => ?_)
    refine xr_iload_n 2 F dX3_valueOf_100 rfl ?_
    refine xr_iload 4 F dX3_valueOf_101 rfl ?_
    refine xr_iadd F dX3_valueOf_103 ?_
    refine xr_iald (r := v97) F dX3_valueOf_104 (fun v104 => ?_)
    refine xr_i2l F dX3_valueOf_105 ?_
    refine xr_goto 162 F dX3_valueOf_106 rfl ?_
    exact xI.sub [0, 1, 2, 3, 4] rfl (fX3_valueOf_p162_ok F hnL hRm hno hmn hk16 l0 l1 l2 l3 l4 v104.toInt64 l3 v87)
  · refine xr_iload 5 F dX3_valueOf_109 rfl ?_
    refine xr_iconst (1 : Int32) F dX3_valueOf_111 rfl ?_
    refine xr_icmp_ne 124 F dX3_valueOf_112 rfl ?_ ?_
    · refine xr_aload_n 0 (r := (some l0)) F dX3_valueOf_115 rfl ?_
      refine xr_iload_n 1 F dX3_valueOf_116 rfl ?_
      refine xr_VI (y := yX3_totalOf) (As := [.int l1]) (r := (some l0)) F (hno _) dX3_valueOf_117 (fun z => fX3_totalOf_m (xFG F) z l1) (Or.inl rfl) (ci := 39) (C := RX3) (T := TX3) rfl q3646 q3643 q3645 qs82 (xroom hRm (Nat.le_of_ble_eq_true rfl) (Nat.le_of_ble_eq_true rfl)) ⟨by decide, by decide⟩ n_X3_totalOf rfl (xcat (Nat.le_of_ble_eq_true rfl)) (fun v117 => ?_)
      refine xr_i2l F dX3_valueOf_120 ?_
      refine xr_goto 162 F dX3_valueOf_121 rfl ?_
      exact xI.sub [0, 1, 2, 3, 4] rfl (fX3_valueOf_p162_ok F hnL hRm hno hmn hk16 l0 l1 l2 l3 l4 v117.toInt64 l3 v87)
    · refine xr_iload 5 F dX3_valueOf_124 rfl ?_
      refine xr_iconst (2 : Int32) F dX3_valueOf_126 rfl ?_
      refine xr_icmp_ne 139 F dX3_valueOf_127 rfl ?_ ?_
      · refine xr_aload_n 0 (r := (some l0)) F dX3_valueOf_130 rfl ?_
        refine xr_iload_n 1 F dX3_valueOf_131 rfl ?_
        refine xr_VI (y := yX3_adultsOf) (As := [.int l1]) (r := (some l0)) F (hno _) dX3_valueOf_132 (fun z => fX3_adultsOf_m (xFG F) z l1) (Or.inl rfl) (ci := 39) (C := RX3) (T := TX3) rfl q3669 q3666 q3668 qs86 (xroom hRm (Nat.le_of_ble_eq_true rfl) (Nat.le_of_ble_eq_true rfl)) ⟨by decide, by decide⟩ n_X3_adultsOf rfl (xcat (Nat.le_of_ble_eq_true rfl)) (fun v132 => ?_)
        refine xr_i2l F dX3_valueOf_135 ?_
        refine xr_goto 162 F dX3_valueOf_136 rfl ?_
        exact xI.sub [0, 1, 2, 3, 4] rfl (fX3_valueOf_p162_ok F hnL hRm hno hmn hk16 l0 l1 l2 l3 l4 v132.toInt64 l3 v87)
      · refine xr_iload 5 F dX3_valueOf_139 rfl ?_
        refine xr_iconst (3 : Int32) F dX3_valueOf_141 rfl ?_
        refine xr_icmp_ne 155 F dX3_valueOf_142 rfl ?_ ?_
        · refine xr_aload_n 0 (r := (some l0)) F dX3_valueOf_145 rfl ?_
          refine xr_iload_n 1 F dX3_valueOf_146 rfl ?_
          refine xr_iconst (0 : Int32) F dX3_valueOf_147 rfl ?_
          refine xr_VI (y := yX3_cohortOf) (As := [.int l1, .int (0 : Int32)]) (r := (some l0)) F (hno _) dX3_valueOf_148 (fun z => fX3_cohortOf_m (xFG F) z l1 (0 : Int32)) (Or.inl rfl) (ci := 39) (C := RX3) (T := TX3) rfl q3650 q3647 q3649 qs83 (xroom hRm (Nat.le_of_ble_eq_true rfl) (Nat.le_of_ble_eq_true rfl)) ⟨by decide, by decide⟩ n_X3_cohortOf rfl (xcat (Nat.le_of_ble_eq_true rfl)) (fun v148 => ?_)
          refine xr_i2l F dX3_valueOf_151 ?_
          refine xr_goto 162 F dX3_valueOf_152 rfl ?_
          exact xI.sub [0, 1, 2, 3, 4] rfl (fX3_valueOf_p162_ok F hnL hRm hno hmn hk16 l0 l1 l2 l3 l4 v148.toInt64 l3 v87)
        · refine xr_aload_n 0 (r := (some l0)) F dX3_valueOf_155 rfl ?_
          refine xr_gR (r := (some l0)) (ref := "ReserveLedgerModel") F dX3_valueOf_156 (C := RX3) (T := TX3) (N := 25) rfl (by decide) (Or.inl q3395) (Or.inl rfl) (fun v156 => ?_)
          refine xr_iconst (1 : Int32) F dX3_valueOf_159 rfl ?_
          refine xr_iald (r := v156) F dX3_valueOf_160 (fun v160 => ?_)
          refine xr_i2l F dX3_valueOf_161 ?_
          exact xI.sub [0, 1, 2, 3, 4] rfl (fX3_valueOf_p162_ok F hnL hRm hno hmn hk16 l0 l1 l2 l3 l4 v160.toInt64 l3 v87)
theorem fX3_valueOf_p16_ok {x : xC} (F : xF x RX3 cX3_valueOf (some .long)) (hnL : xnL x = 6) (hRm : ∃ dc ds, x.2.2.2.1 = { frames := 5, cells := dc, slots := ds, locals := 100 }) (hno : ∀ pc, xNo x pc) (hmn : xmn x = "valueOf" ∧ xmy x yX3_valueOf) : ∀ (n : Nat) (l0 : Nat) (l1 : Int32) (l2 : Int32) (l3 : Int32) (l4 : Int32), xI x xeJ 16 [(0, va_rf (some l0)), (1, .int l1), (2, .int l2), (3, .int l3), (4, .int l4)] [] (fX3_valueOf_p16 n l0 l1 l2 l3 l4) := by
  intro n
  induction n with
  | zero => intro l0 l1 l2 l3 l4; exact xI.stuck
  | succ n ih =>
    intro l0 l1 l2 l3 l4
    unfold fX3_valueOf_p16
    refine xr_iload 4 F dX3_valueOf_16 rfl ?_
    refine xr_aload_n 0 (r := (some l0)) F dX3_valueOf_18 rfl ?_
    refine xr_gR (r := (some l0)) (ref := "ReserveLedgerModel") F dX3_valueOf_19 (C := RX3) (T := TX3) (N := 25) rfl (by decide) (Or.inl q3400) (Or.inl rfl) (fun v19 => ?_)
    refine xr_iload_n 2 F dX3_valueOf_22 rfl ?_
    refine xr_iald (r := v19) F dX3_valueOf_23 (fun v23 => ?_)
    refine xr_icmp_gt 172 F dX3_valueOf_24 rfl ?_ ?_
    · refine xr_aload_n 0 (r := (some l0)) F dX3_valueOf_172 rfl ?_
      refine xr_gR (r := (some l0)) (ref := "ReserveLedgerModel") F dX3_valueOf_173 (C := RX3) (T := TX3) (N := 25) rfl (by decide) (Or.inl q3400) (Or.inl rfl) (fun v173 => ?_)
      refine xr_iload_n 2 F dX3_valueOf_176 rfl ?_
      refine xr_iald (r := v173) F dX3_valueOf_177 (fun v177 => ?_)
      refine xr_if_ne 185 F dX3_valueOf_178 rfl ?_ ?_
      · refine xr_lconst 0 F dX3_valueOf_181 rfl ?_
        refine xr_goto 191 F dX3_valueOf_182 rfl ?_
        exact xr_lret F dX3_valueOf_191
      · refine xr_aload_n 0 (r := (some l0)) F dX3_valueOf_185 rfl ?_
        refine xr_gR (r := (some l0)) (ref := "ReserveLedgerModel") F dX3_valueOf_186 (C := RX3) (T := TX3) (N := 25) rfl (by decide) (Or.inl q3402) (Or.inl rfl) (fun v186 => ?_)
        refine xr_iconst (0 : Int32) F dX3_valueOf_189 rfl ?_
        refine xr_lald (r := v186) F dX3_valueOf_190 (fun v190 => ?_)
        exact xr_lret F dX3_valueOf_191
    · refine xr_aload_n 0 (r := (some l0)) F dX3_valueOf_27 rfl ?_
      refine xr_gR (r := (some l0)) (ref := "ReserveLedgerModel") F dX3_valueOf_28 (C := RX3) (T := TX3) (N := 25) rfl (by decide) (Or.inl q3400) (Or.inl rfl) (fun v28 => ?_)
      refine xr_iload_n 2 F dX3_valueOf_31 rfl ?_
      refine xr_iload 4 F dX3_valueOf_32 rfl ?_
      refine xr_iadd F dX3_valueOf_34 ?_
      refine xr_iald (r := v28) F dX3_valueOf_35 (fun v35 => ?_)
      refine xs_i [0, 1, 2, 3, 4] F dX3_valueOf_36 hnL rfl rfl (xk1 rfl rfl (xk1 rfl rfl (xk1 rfl rfl (xk1 rfl rfl (xk2 rfl rfl xk0))))) ?_
      refine xr_iload 0 F dX3_valueOf_38 rfl ?_
      refine xr_iconst (5 : Int32) F dX3_valueOf_40 rfl ?_
      refine xr_icmp_lt 78 F dX3_valueOf_41 rfl ?_ ?_
      · refine xr_iload 0 F dX3_valueOf_78 rfl ?_
        refine xr_if_ne 86 F dX3_valueOf_80 rfl ?_ ?_
        · refine xs_inc [5, 0, 1, 2, 3, 4] F dX3_valueOf_83 rfl hnL rfl rfl (xk1 rfl rfl (xk1 rfl rfl (xk1 rfl rfl (xk1 rfl rfl (xk2 rfl rfl xk0))))) (fun x4_83 => ?_)
          exact xI.sub [2, 3, 4, 5, 0, 1] rfl (fX3_valueOf_p86_ok F hnL hRm hno hmn ih l0 l1 l2 l3 x4_83 v35)
        · exact xI.sub [1, 2, 3, 4, 5, 0] rfl (fX3_valueOf_p86_ok F hnL hRm hno hmn ih l0 l1 l2 l3 l4 v35)
      · refine xs_inc [4, 0, 1, 2, 3, 5] F dX3_valueOf_44 rfl hnL rfl rfl (xk1 rfl rfl (xk1 rfl rfl (xk1 rfl rfl (xk2 rfl rfl (xk1 rfl rfl xk0))))) (fun x3_44 => ?_)
        refine xr_aload_n 2 (r := (some l0)) F dX3_valueOf_47 rfl ?_
        refine xr_gR (r := (some l0)) (ref := "ReserveLedgerModel") F dX3_valueOf_48 (C := RX3) (T := TX3) (N := 25) rfl (by decide) (Or.inl q3402) (Or.inl rfl) (fun v48 => ?_)
        refine xr_iload_n 0 F dX3_valueOf_51 rfl ?_
        refine xr_iconst (1 : Int32) F dX3_valueOf_52 rfl ?_
        refine xr_isub F dX3_valueOf_53 ?_
        refine xr_aload_n 2 (r := (some l0)) F dX3_valueOf_54 rfl ?_
        refine xr_iload 1 F dX3_valueOf_55 rfl ?_
        refine xr_aload_n 2 (r := (some l0)) F dX3_valueOf_57 rfl ?_
        refine xr_gR (r := (some l0)) (ref := "ReserveLedgerModel") F dX3_valueOf_58 (C := RX3) (T := TX3) (N := 25) rfl (by decide) (Or.inl q3402) (Or.inl rfl) (fun v58 => ?_)
        refine xr_iload_n 0 F dX3_valueOf_61 rfl ?_
        refine xr_iconst (1 : Int32) F dX3_valueOf_62 rfl ?_
        refine xr_isub F dX3_valueOf_63 ?_
        refine xr_lald (r := v58) F dX3_valueOf_64 (fun v64 => ?_)
        refine xr_aload_n 2 (r := (some l0)) F dX3_valueOf_65 rfl ?_
        refine xr_gR (r := (some l0)) (ref := "ReserveLedgerModel") F dX3_valueOf_66 (C := RX3) (T := TX3) (N := 25) rfl (by decide) (Or.inl q3402) (Or.inl rfl) (fun v66 => ?_)
        refine xr_iload_n 0 F dX3_valueOf_69 rfl ?_
        refine xr_lald (r := v66) F dX3_valueOf_70 (fun v70 => ?_)
        refine xr_VJ (y := yX3_worked) (As := [.int v35, .long v64, .long v70]) (r := (some l0)) F (hno _) dX3_valueOf_71 (fun z => fX3_worked_m (xFG F) z v35 v64 v70) (Or.inl rfl) (ci := 39) (C := RX3) (T := TX3) rfl q3658 q3655 q3657 qs85 (xroom hRm (Nat.le_of_ble_eq_true rfl) (Nat.le_of_ble_eq_true rfl)) ⟨by decide, by decide⟩ n_X3_worked rfl (xcat (Nat.le_of_ble_eq_true rfl)) (fun v71 => ?_)
        refine xr_last (r := v48) F dX3_valueOf_74 ?_
        refine xr_goto 166 F dX3_valueOf_75 rfl ?_
        exact xI.sub [2, 3, 4, 0, 5] rfl (fX3_valueOf_p166_ok F hnL hRm hno hmn ih l0 l1 l2 x3_44 l4)
theorem fX3_valueOf_m {l : Launch} {D : xD} {s0 : State} {b0 : Nat} {Γ : Nat → Option Nat} (G : xG l D s0 b0 Γ) (a0 : Nat) (p0 : Int32) : xMeth l D s0 Γ yX3_valueOf (Cond.code yX3_valueOf cX3_valueOf 6 (some .long)) (5) (100) [.ref a0, .int p0] xeJ (fX3_valueOf a0 p0) := by
  refine xMeth.of (lv0 := [(0, va_rf (some a0)), (1, .int p0)]) G (by decide +kernel) (Or.inl rfl) (Nat.le_of_ble_eq_true rfl) rfl (fun x F hnL hRm hmn ht e1 e2 e3 e4 => ?_)
  have hno : ∀ pc, xNo x pc := fun pc z hz => by rw [ht.1 rfl] at hz; cases hz
  unfold fX3_valueOf
  refine xr_sipush (1401 : Int32) F dX3_valueOf_0 rfl ?_
  refine xr_iload_n 1 F dX3_valueOf_3 rfl ?_
  refine xr_imul F dX3_valueOf_4 ?_
  refine xr_letI (fun x2_5 => ?_)
  refine xs_i_n [0, 1] F dX3_valueOf_5 hnL rfl rfl (xk1 rfl rfl (xk2 rfl rfl xk0)) ?_
  refine xr_iconst (0 : Int32) F dX3_valueOf_6 rfl ?_
  refine xr_letI (fun x3_7 => ?_)
  refine xs_i_n [0, 1, 2] F dX3_valueOf_7 hnL rfl rfl (xk2 rfl rfl (xk1 rfl rfl (xk1 rfl rfl xk0))) ?_
  refine xr_aload_n 2 (r := (some a0)) F dX3_valueOf_8 rfl ?_
  refine xr_iconst (0 : Int32) F dX3_valueOf_9 rfl ?_
  refine xr_pN (r := (some a0)) (ref := "ReserveLedgerModel") F dX3_valueOf_10 xk_39 (by decide) (Or.inl q3403) (Or.inl rfl) (Or.inl rfl) ?_
  refine xr_iconst (1 : Int32) F dX3_valueOf_13 rfl ?_
  refine xr_letI (fun x4_14 => ?_)
  refine xs_i [0, 1, 2, 3] F dX3_valueOf_14 hnL rfl rfl (xk2 rfl rfl (xk1 rfl rfl (xk1 rfl rfl (xk1 rfl rfl xk0)))) ?_
  exact xI.sub [3, 4, 2, 1, 0] rfl (fX3_valueOf_p16_ok F hnL hRm hno hmn xFU a0 p0 x2_5 x3_7 x4_14)
theorem fX3_opens_p126_ok {x : xC} (F : xF x RX3 cX3_opens none) (hnL : xnL x = 5) (hRm : ∃ dc ds, x.2.2.2.1 = { frames := 6, cells := dc, slots := ds, locals := 125 }) (hno : ∀ pc, xNo x pc) (hmn : xmn x = "opens" ∧ xmy x yX3_opens) (s0 : Int32) (s1 : Int32) (s2 : Option Nat) : xI x xeV 126 [] [.int s0, .int s1, va_rf s2] (fX3_opens_p126 s0 s1 s2) := by
  unfold fX3_opens_p126
  refine xr_iast (r := s2) F dX3_opens_126 ?_
  exact xr_vret F dX3_opens_127
theorem fX3_opens_p94_ok {x : xC} (F : xF x RX3 cX3_opens none) (hnL : xnL x = 5) (hRm : ∃ dc ds, x.2.2.2.1 = { frames := 6, cells := dc, slots := ds, locals := 125 }) (hno : ∀ pc, xNo x pc) (hmn : xmn x = "opens" ∧ xmy x yX3_opens) (l0 : Nat) (l1 : Int32) (l2 : Int32) (l3 : Int64) (s0 : Int32) (s1 : Int32) (s2 : Option Nat) : xI x xeV 94 [(0, va_rf (some l0)), (1, .int l1), (2, .int l2), (3, .long l3)] [.int s0, .int s1, va_rf s2] (fX3_opens_p94 l0 l1 l2 l3 s0 s1 s2) := by
  unfold fX3_opens_p94
  refine xr_iast (r := s2) F dX3_opens_94 ?_
  refine xr_aload_n 0 (r := (some l0)) F dX3_opens_95 rfl ?_
  refine xr_gR (r := (some l0)) (ref := "ReserveLedgerModel") F dX3_opens_96 (C := RX3) (T := TX3) (N := 25) rfl (by decide) (Or.inl q3395) (Or.inl rfl) (fun v96 => ?_)
  refine xr_iload_n 1 F dX3_opens_99 rfl ?_
  refine xr_iconst (5 : Int32) F dX3_opens_100 rfl ?_
  refine xr_SI (y := yX3_at) (As := [.int l1, .int (5 : Int32)]) F (hno _) dX3_opens_101 (fX3_at_m (xFG F) l1 (5 : Int32)) (Or.inl rfl) q3565 q144 (Or.inl q3563) q3564 (xroom hRm (Nat.le_of_ble_eq_true rfl) (Nat.le_of_ble_eq_true rfl)) ⟨by decide, by decide⟩ n_X3_at rfl (xcat (Nat.le_of_ble_eq_true rfl)) (fun v101 => ?_)
  refine xr_aload_n 0 (r := (some l0)) F dX3_opens_104 rfl ?_
  refine xr_gI (r := (some l0)) (ref := "ReserveLedgerModel") F dX3_opens_105 (C := RX3) (T := TX3) (N := 25) rfl (by decide) (Or.inl q3403) (Or.inl rfl) (fun v105 => ?_)
  refine xr_if_eq 115 F dX3_opens_108 rfl ?_ ?_
  · refine xr_lconst 0 F dX3_opens_115 rfl ?_
    refine xr_iload_n 2 F dX3_opens_116 rfl ?_
    refine xr_i2l F dX3_opens_117 ?_
    refine xr_lload_n 3 F dX3_opens_118 rfl ?_
    refine xr_SJ (y := yJ12_min_2) (As := [.long l2.toInt64, .long l3]) F (hno _) dX3_opens_119 (fJ12_min_2_m (xFG F) l2.toInt64 l3) (Or.inl rfl) q2424 q135 (Or.inl q3664) q2423 (xroom hRm (Nat.le_of_ble_eq_true rfl) (Nat.le_of_ble_eq_true rfl)) ⟨by decide, by decide⟩ n_J12_min_2 rfl (xcat (Nat.le_of_ble_eq_true rfl)) (fun v119 => ?_)
    refine xr_SJ (y := yJ12_max_2) (As := [.long (0 : Int64), .long v119]) F (hno _) dX3_opens_122 (fJ12_max_2_m (xFG F) (0 : Int64) v119) (Or.inl rfl) q2430 q135 (Or.inl q3665) q2429 (xroom hRm (Nat.le_of_ble_eq_true rfl) (Nat.le_of_ble_eq_true rfl)) ⟨by decide, by decide⟩ n_J12_max_2 rfl (xcat (Nat.le_of_ble_eq_true rfl)) (fun v122 => ?_)
    refine xr_l2i F dX3_opens_125 ?_
    exact xI.sub [] rfl (fX3_opens_p126_ok F hnL hRm hno hmn v122.toInt32 v101 v96)
  · refine xr_iconst (0 : Int32) F dX3_opens_111 rfl ?_
    refine xr_goto 126 F dX3_opens_112 rfl ?_
    exact xI.sub [] rfl (fX3_opens_p126_ok F hnL hRm hno hmn (0 : Int32) v101 v96)
theorem fX3_opens_m {l : Launch} {D : xD} {s0 : State} {b0 : Nat} {Γ : Nat → Option Nat} (G : xG l D s0 b0 Γ) (a0 : Nat) (p0 : Int32) : xMeth l D s0 Γ yX3_opens (Cond.code yX3_opens cX3_opens 5 none) (6) (125) [.ref a0, .int p0] xeV (fX3_opens a0 p0) := by
  refine xMeth.of (lv0 := [(0, va_rf (some a0)), (1, .int p0)]) G (by decide +kernel) (Or.inl rfl) (Nat.le_of_ble_eq_true rfl) rfl (fun x F hnL hRm hmn ht e1 e2 e3 e4 => ?_)
  have hno : ∀ pc, xNo x pc := fun pc z hz => by rw [ht.1 rfl] at hz; cases hz
  unfold fX3_opens
  refine xr_aload_n 0 (r := (some a0)) F dX3_opens_0 rfl ?_
  refine xr_iload_n 1 F dX3_opens_1 rfl ?_
  refine xr_VI (y := yX3_totalOf) (As := [.int p0]) (r := (some a0)) F (hno _) dX3_opens_2 (fun z => fX3_totalOf_m (xFG F) z p0) (Or.inl rfl) (ci := 39) (C := RX3) (T := TX3) rfl q3646 q3643 q3645 qs82 (xroom hRm (Nat.le_of_ble_eq_true rfl) (Nat.le_of_ble_eq_true rfl)) ⟨by decide, by decide⟩ n_X3_totalOf rfl (xcat (Nat.le_of_ble_eq_true rfl)) (fun v2 => ?_)
  refine xs_i_n [0, 1] F dX3_opens_5 hnL rfl rfl (xk1 rfl rfl (xk2 rfl rfl xk0)) ?_
  refine xr_aload_n 1 (r := (some a0)) F dX3_opens_6 rfl ?_
  refine xr_iload_n 2 F dX3_opens_7 rfl ?_
  refine xr_VJ (y := yX3_valueOf) (As := [.int p0]) (r := (some a0)) F (hno _) dX3_opens_8 (fun z => fX3_valueOf_m (xFG F) z p0) (Or.inl rfl) (ci := 39) (C := RX3) (T := TX3) rfl q3654 q3651 q3653 qs84 (xroom hRm (Nat.le_of_ble_eq_true rfl) (Nat.le_of_ble_eq_true rfl)) ⟨by decide, by decide⟩ n_X3_valueOf rfl (xcat (Nat.le_of_ble_eq_true rfl)) (fun v8 => ?_)
  refine xs_l_n [0, 1, 2] F dX3_opens_11 hnL rfl rfl (xk2 rfl rfl (xk1 rfl rfl (xk1 rfl rfl xk0))) (xk21 rfl (xk21 rfl (xk21 rfl xk20))) ?_
  refine xr_aload_n 2 (r := (some a0)) F dX3_opens_12 rfl ?_
  refine xr_gR (r := (some a0)) (ref := "ReserveLedgerModel") F dX3_opens_13 (C := RX3) (T := TX3) (N := 25) rfl (by decide) (Or.inl q3395) (Or.inl rfl) (fun v13 => ?_)
  refine xr_iload_n 3 F dX3_opens_16 rfl ?_
  refine xr_bipush (7 : Int32) F dX3_opens_17 rfl ?_
  refine xr_SI (y := yX3_at) (As := [.int p0, .int (7 : Int32)]) F (hno _) dX3_opens_19 (fX3_at_m (xFG F) p0 (7 : Int32)) (Or.inl rfl) q3565 q144 (Or.inl q3563) q3564 (xroom hRm (Nat.le_of_ble_eq_true rfl) (Nat.le_of_ble_eq_true rfl)) ⟨by decide, by decide⟩ n_X3_at rfl (xcat (Nat.le_of_ble_eq_true rfl)) (fun v19 => ?_)
  refine xr_iload_n 1 F dX3_opens_22 rfl ?_
  refine xr_iast (r := v13) F dX3_opens_23 ?_
  refine xr_aload_n 2 (r := (some a0)) F dX3_opens_24 rfl ?_
  refine xr_gR (r := (some a0)) (ref := "ReserveLedgerModel") F dX3_opens_25 (C := RX3) (T := TX3) (N := 25) rfl (by decide) (Or.inl q3395) (Or.inl rfl) (fun v25 => ?_)
  refine xr_iload_n 3 F dX3_opens_28 rfl ?_
  refine xr_bipush (8 : Int32) F dX3_opens_29 rfl ?_
  refine xr_SI (y := yX3_at) (As := [.int p0, .int (8 : Int32)]) F (hno _) dX3_opens_31 (fX3_at_m (xFG F) p0 (8 : Int32)) (Or.inl rfl) q3565 q144 (Or.inl q3563) q3564 (xroom hRm (Nat.le_of_ble_eq_true rfl) (Nat.le_of_ble_eq_true rfl)) ⟨by decide, by decide⟩ n_X3_at rfl (xcat (Nat.le_of_ble_eq_true rfl)) (fun v31 => ?_)
  refine xr_iconst (0 : Int32) F dX3_opens_34 rfl ?_
  refine xr_iast (r := v25) F dX3_opens_35 ?_
  refine xr_aload_n 2 (r := (some a0)) F dX3_opens_36 rfl ?_
  refine xr_gR (r := (some a0)) (ref := "ReserveLedgerModel") F dX3_opens_37 (C := RX3) (T := TX3) (N := 25) rfl (by decide) (Or.inl q3395) (Or.inl rfl) (fun v37 => ?_)
  refine xr_iload_n 3 F dX3_opens_40 rfl ?_
  refine xr_bipush (9 : Int32) F dX3_opens_41 rfl ?_
  refine xr_SI (y := yX3_at) (As := [.int p0, .int (9 : Int32)]) F (hno _) dX3_opens_43 (fX3_at_m (xFG F) p0 (9 : Int32)) (Or.inl rfl) q3565 q144 (Or.inl q3563) q3564 (xroom hRm (Nat.le_of_ble_eq_true rfl) (Nat.le_of_ble_eq_true rfl)) ⟨by decide, by decide⟩ n_X3_at rfl (xcat (Nat.le_of_ble_eq_true rfl)) (fun v43 => ?_)
  refine xr_iconst (0 : Int32) F dX3_opens_46 rfl ?_
  refine xr_iast (r := v37) F dX3_opens_47 ?_
  refine xr_aload_n 2 (r := (some a0)) F dX3_opens_48 rfl ?_
  refine xr_gR (r := (some a0)) (ref := "ReserveLedgerModel") F dX3_opens_49 (C := RX3) (T := TX3) (N := 25) rfl (by decide) (Or.inl q3395) (Or.inl rfl) (fun v49 => ?_)
  refine xr_iload_n 3 F dX3_opens_52 rfl ?_
  refine xr_bipush (10 : Int32) F dX3_opens_53 rfl ?_
  refine xr_SI (y := yX3_at) (As := [.int p0, .int (10 : Int32)]) F (hno _) dX3_opens_55 (fX3_at_m (xFG F) p0 (10 : Int32)) (Or.inl rfl) q3565 q144 (Or.inl q3563) q3564 (xroom hRm (Nat.le_of_ble_eq_true rfl) (Nat.le_of_ble_eq_true rfl)) ⟨by decide, by decide⟩ n_X3_at rfl (xcat (Nat.le_of_ble_eq_true rfl)) (fun v55 => ?_)
  refine xr_iconst (0 : Int32) F dX3_opens_58 rfl ?_
  refine xr_iast (r := v49) F dX3_opens_59 ?_
  refine xr_aload_n 2 (r := (some a0)) F dX3_opens_60 rfl ?_
  refine xr_gR (r := (some a0)) (ref := "ReserveLedgerModel") F dX3_opens_61 (C := RX3) (T := TX3) (N := 25) rfl (by decide) (Or.inl q3395) (Or.inl rfl) (fun v61 => ?_)
  refine xr_iload_n 3 F dX3_opens_64 rfl ?_
  refine xr_bipush (11 : Int32) F dX3_opens_65 rfl ?_
  refine xr_SI (y := yX3_at) (As := [.int p0, .int (11 : Int32)]) F (hno _) dX3_opens_67 (fX3_at_m (xFG F) p0 (11 : Int32)) (Or.inl rfl) q3565 q144 (Or.inl q3563) q3564 (xroom hRm (Nat.le_of_ble_eq_true rfl) (Nat.le_of_ble_eq_true rfl)) ⟨by decide, by decide⟩ n_X3_at rfl (xcat (Nat.le_of_ble_eq_true rfl)) (fun v67 => ?_)
  refine xr_iconst (0 : Int32) F dX3_opens_70 rfl ?_
  refine xr_iast (r := v61) F dX3_opens_71 ?_
  refine xr_aload_n 2 (r := (some a0)) F dX3_opens_72 rfl ?_
  refine xr_gR (r := (some a0)) (ref := "ReserveLedgerModel") F dX3_opens_73 (C := RX3) (T := TX3) (N := 25) rfl (by decide) (Or.inl q3395) (Or.inl rfl) (fun v73 => ?_)
  refine xr_iload_n 3 F dX3_opens_76 rfl ?_
  refine xr_bipush (6 : Int32) F dX3_opens_77 rfl ?_
  refine xr_SI (y := yX3_at) (As := [.int p0, .int (6 : Int32)]) F (hno _) dX3_opens_79 (fX3_at_m (xFG F) p0 (6 : Int32)) (Or.inl rfl) q3565 q144 (Or.inl q3563) q3564 (xroom hRm (Nat.le_of_ble_eq_true rfl) (Nat.le_of_ble_eq_true rfl)) ⟨by decide, by decide⟩ n_X3_at rfl (xcat (Nat.le_of_ble_eq_true rfl)) (fun v79 => ?_)
  refine xr_aload_n 2 (r := (some a0)) F dX3_opens_82 rfl ?_
  refine xr_gI (r := (some a0)) (ref := "ReserveLedgerModel") F dX3_opens_83 (C := RX3) (T := TX3) (N := 25) rfl (by decide) (Or.inl q3403) (Or.inl rfl) (fun v83 => ?_)
  refine xr_if_eq 93 F dX3_opens_86 rfl ?_ ?_
  · refine xr_iconst (0 : Int32) F dX3_opens_93 rfl ?_
    exact xI.sub [2, 3, 1, 0] rfl (fX3_opens_p94_ok F hnL hRm hno hmn a0 p0 v2 v8 (0 : Int32) v79 v73)
  · refine xr_iconst (1 : Int32) F dX3_opens_89 rfl ?_
    refine xr_goto 94 F dX3_opens_90 rfl ?_
    exact xI.sub [2, 3, 1, 0] rfl (fX3_opens_p94_ok F hnL hRm hno hmn a0 p0 v2 v8 (1 : Int32) v79 v73)
theorem fX3_hasFailed_m {l : Launch} {D : xD} {s0 : State} {b0 : Nat} {Γ : Nat → Option Nat} (G : xG l D s0 b0 Γ) (a0 : Nat) : xMeth l D s0 Γ yX3_hasFailed (Cond.code yX3_hasFailed cX3_hasFailed 1 (some .boolean)) (1) (12) [.ref a0] xeI (fX3_hasFailed a0) := by
  refine xMeth.of (lv0 := [(0, va_rf (some a0))]) G (by decide +kernel) (Or.inl rfl) (Nat.le_of_ble_eq_true rfl) rfl (fun x F hnL hRm hmn ht e1 e2 e3 e4 => ?_)
  have hno : ∀ pc, xNo x pc := fun pc z hz => by rw [ht.1 rfl] at hz; cases hz
  unfold fX3_hasFailed
  refine xr_aload_n 0 (r := (some a0)) F dX3_hasFailed_0 rfl ?_
  refine xr_gI (r := (some a0)) (ref := "ReserveLedgerModel") F dX3_hasFailed_1 (C := RX3) (T := TX3) (N := 25) rfl (by decide) (Or.inl q3410) (Or.inl rfl) (fun v1 => ?_)
  refine xr_iconst (-1 : Int32) F dX3_hasFailed_4 rfl ?_
  refine xr_icmp_eq 12 F dX3_hasFailed_5 rfl ?_ ?_
  · refine xr_iconst (0 : Int32) F dX3_hasFailed_12 rfl ?_
    exact xr_zret F dX3_hasFailed_13 rfl
  · refine xr_iconst (1 : Int32) F dX3_hasFailed_8 rfl ?_
    refine xr_goto 13 F dX3_hasFailed_9 rfl ?_
    exact xr_zret F dX3_hasFailed_13 rfl
theorem fX3_throwsIf_m {l : Launch} {D : xD} {s0 : State} {b0 : Nat} {Γ : Nat → Option Nat} (G : xG l D s0 b0 Γ) (a0 : Nat) (p0 : Int32) (p1 : Int32) : xMeth l D s0 Γ yX3_throwsIf (Cond.code yX3_throwsIf cX3_throwsIf 3 (some .boolean)) (1) (12) [.ref a0, .int p0, .int p1] xeI (fX3_throwsIf a0 p0 p1) := by
  refine xMeth.of (lv0 := [(0, va_rf (some a0)), (1, .int p0), (2, .int p1)]) G (by decide +kernel) (Or.inl rfl) (Nat.le_of_ble_eq_true rfl) rfl (fun x F hnL hRm hmn ht e1 e2 e3 e4 => ?_)
  have hno : ∀ pc, xNo x pc := fun pc z hz => by rw [ht.1 rfl] at hz; cases hz
  unfold fX3_throwsIf
  refine xr_iload_n 1 F dX3_throwsIf_0 rfl ?_
  refine xr_if_eq 9 F dX3_throwsIf_1 rfl ?_ ?_
  · refine xr_iload_n 1 F dX3_throwsIf_9 rfl ?_
    exact xr_nret F dX3_throwsIf_10
  · refine xr_aload_n 0 (r := (some a0)) F dX3_throwsIf_4 rfl ?_
    refine xr_iload_n 2 F dX3_throwsIf_5 rfl ?_
    refine xr_put (r := (some a0)) (ref := "ReserveLedgerModel") F dX3_throwsIf_6 xk_39 (by decide) (Or.inl q3394) (Or.inl rfl) (Or.inl rfl) ⟨rfl, rfl⟩ ?_
    refine xr_iload_n 1 F dX3_throwsIf_9 rfl ?_
    exact xr_nret F dX3_throwsIf_10
theorem fX3_takesBack_m {l : Launch} {D : xD} {s0 : State} {b0 : Nat} {Γ : Nat → Option Nat} (G : xG l D s0 b0 Γ) (a0 : Nat) : xMeth l D s0 Γ yX3_takesBack (Cond.code yX3_takesBack cX3_takesBack 1 none) (2) (37) [.ref a0] xeV (fX3_takesBack a0) := by
  refine xMeth.of (lv0 := [(0, va_rf (some a0))]) G (by decide +kernel) (Or.inl rfl) (Nat.le_of_ble_eq_true rfl) rfl (fun x F hnL hRm hmn ht e1 e2 e3 e4 => ?_)
  have hno : ∀ pc, xNo x pc := fun pc z hz => by rw [ht.1 rfl] at hz; cases hz
  unfold fX3_takesBack
  refine xr_aload_n 0 (r := (some a0)) F dX3_takesBack_0 rfl ?_
  refine xr_aload_n 0 (r := (some a0)) F dX3_takesBack_1 rfl ?_
  refine xr_gR (r := (some a0)) (ref := "ReserveLedgerModel") F dX3_takesBack_2 (C := RX3) (T := TX3) (N := 25) rfl (by decide) (Or.inl q3396) (Or.inl rfl) (fun v2 => ?_)
  refine xr_iconst (0 : Int32) F dX3_takesBack_5 rfl ?_
  refine xr_aload_n 0 (r := (some a0)) F dX3_takesBack_6 rfl ?_
  refine xr_gR (r := (some a0)) (ref := "ReserveLedgerModel") F dX3_takesBack_7 (C := RX3) (T := TX3) (N := 25) rfl (by decide) (Or.inl q3395) (Or.inl rfl) (fun v7 => ?_)
  refine xr_iconst (0 : Int32) F dX3_takesBack_10 rfl ?_
  refine xr_VV (y := yX3_copies) (As := [va_rf v2, .int (0 : Int32), va_rf v7, .int (0 : Int32)]) (r := (some a0)) F (hno _) dX3_takesBack_11 (fun z => fX3_copies_m (xFG F) z v2 (0 : Int32) v7 (0 : Int32)) (Or.inl rfl) (ci := 39) (C := RX3) (T := TX3) rfl q3478 q3475 q3477 qs52 (xroom hRm (Nat.le_of_ble_eq_true rfl) (Nat.le_of_ble_eq_true rfl)) ⟨by decide, by decide⟩ n_X3_copies rfl (xcat (Nat.le_of_ble_eq_true rfl)) (fun _ => ?_)
  exact xr_vret F dX3_takesBack_14
theorem fX3_isAt_m {l : Launch} {D : xD} {s0 : State} {b0 : Nat} {Γ : Nat → Option Nat} (G : xG l D s0 b0 Γ) (a0 : Nat) (p0 : Int32) (p1 : Int32) : xMeth l D s0 Γ yX3_isAt (Cond.code yX3_isAt cX3_isAt 3 (some .boolean)) (1) (12) [.ref a0, .int p0, .int p1] xeI (fX3_isAt a0 p0 p1) := by
  refine xMeth.of (lv0 := [(0, va_rf (some a0)), (1, .int p0), (2, .int p1)]) G (by decide +kernel) (Or.inl rfl) (Nat.le_of_ble_eq_true rfl) rfl (fun x F hnL hRm hmn ht e1 e2 e3 e4 => ?_)
  have hno : ∀ pc, xNo x pc := fun pc z hz => by rw [ht.1 rfl] at hz; cases hz
  unfold fX3_isAt
  refine xr_aload_n 0 (r := (some a0)) F dX3_isAt_0 rfl ?_
  refine xr_gI (r := (some a0)) (ref := "ReserveLedgerModel") F dX3_isAt_1 (C := RX3) (T := TX3) (N := 25) rfl (by decide) (Or.inl q3407) (Or.inl rfl) (fun v1 => ?_)
  refine xr_aload_n 0 (r := (some a0)) F dX3_isAt_4 rfl ?_
  refine xr_gI (r := (some a0)) (ref := "ReserveLedgerModel") F dX3_isAt_5 (C := RX3) (T := TX3) (N := 25) rfl (by decide) (Or.inl q3409) (Or.inl rfl) (fun v5 => ?_)
  refine xr_icmp_ge 41 F dX3_isAt_8 rfl ?_ ?_
  · refine xr_iconst (0 : Int32) F dX3_isAt_41 rfl ?_
    exact xr_zret F dX3_isAt_42 rfl
  · refine xr_aload_n 0 (r := (some a0)) F dX3_isAt_11 rfl ?_
    refine xr_gR (r := (some a0)) (ref := "ReserveLedgerModel") F dX3_isAt_12 (C := RX3) (T := TX3) (N := 25) rfl (by decide) (Or.inl q3404) (Or.inl rfl) (fun v12 => ?_)
    refine xr_aload_n 0 (r := (some a0)) F dX3_isAt_15 rfl ?_
    refine xr_gI (r := (some a0)) (ref := "ReserveLedgerModel") F dX3_isAt_16 (C := RX3) (T := TX3) (N := 25) rfl (by decide) (Or.inl q3407) (Or.inl rfl) (fun v16 => ?_)
    refine xr_bald (r := v12) F dX3_isAt_19 (fun v19 => ?_)
    refine xr_iload_n 1 F dX3_isAt_20 rfl ?_
    refine xr_icmp_lt 41 F dX3_isAt_21 rfl ?_ ?_
    · refine xr_iconst (0 : Int32) F dX3_isAt_41 rfl ?_
      exact xr_zret F dX3_isAt_42 rfl
    · refine xr_aload_n 0 (r := (some a0)) F dX3_isAt_24 rfl ?_
      refine xr_gR (r := (some a0)) (ref := "ReserveLedgerModel") F dX3_isAt_25 (C := RX3) (T := TX3) (N := 25) rfl (by decide) (Or.inl q3404) (Or.inl rfl) (fun v25 => ?_)
      refine xr_aload_n 0 (r := (some a0)) F dX3_isAt_28 rfl ?_
      refine xr_gI (r := (some a0)) (ref := "ReserveLedgerModel") F dX3_isAt_29 (C := RX3) (T := TX3) (N := 25) rfl (by decide) (Or.inl q3407) (Or.inl rfl) (fun v29 => ?_)
      refine xr_bald (r := v25) F dX3_isAt_32 (fun v32 => ?_)
      refine xr_iload_n 2 F dX3_isAt_33 rfl ?_
      refine xr_icmp_gt 41 F dX3_isAt_34 rfl ?_ ?_
      · refine xr_iconst (0 : Int32) F dX3_isAt_41 rfl ?_
        exact xr_zret F dX3_isAt_42 rfl
      · refine xr_iconst (1 : Int32) F dX3_isAt_37 rfl ?_
        refine xr_goto 42 F dX3_isAt_38 rfl ?_
        exact xr_zret F dX3_isAt_42 rfl
theorem fX3_blanks_p30_ok {x : xC} (F : xF x RX3 cX3_blanks none) (hnL : xnL x = 1) (hRm : ∃ dc ds, x.2.2.2.1 = { frames := 2, cells := dc, slots := ds, locals := 34 }) (hno : ∀ pc, xNo x pc) (hmn : xmn x = "blanks" ∧ xmy x yX3_blanks) {k8 : Nat → xM (Unit)} (hk8 : ∀ (l0 : Nat), xI x xeV 8 [(0, va_rf (some l0))] [] (k8 l0)) (l0 : Nat) : xI x xeV 30 [(0, va_rf (some l0))] [] (fX3_blanks_p30 k8 l0) := by
  unfold fX3_blanks_p30
  refine xr_aload_n 0 (r := (some l0)) F dX3_blanks_30 rfl ?_
  refine xr_dup F dX3_blanks_31 (xrf_cat _) ?_
  refine xr_gI (r := (some l0)) (ref := "ReserveLedgerModel") F dX3_blanks_32 (C := RX3) (T := TX3) (N := 25) rfl (by decide) (Or.inl q3407) (Or.inl rfl) (fun v32 => ?_)
  refine xr_iconst (1 : Int32) F dX3_blanks_35 rfl ?_
  refine xr_iadd F dX3_blanks_36 ?_
  refine xr_put (r := (some l0)) (ref := "ReserveLedgerModel") F dX3_blanks_37 xk_39 (by decide) (Or.inl q3407) (Or.inl rfl) (Or.inl rfl) ⟨rfl, rfl⟩ ?_
  refine xr_goto 8 F dX3_blanks_40 rfl ?_
  exact xI.sub [0] rfl (hk8 l0)
theorem fX3_blanks_p8_ok {x : xC} (F : xF x RX3 cX3_blanks none) (hnL : xnL x = 1) (hRm : ∃ dc ds, x.2.2.2.1 = { frames := 2, cells := dc, slots := ds, locals := 34 }) (hno : ∀ pc, xNo x pc) (hmn : xmn x = "blanks" ∧ xmy x yX3_blanks) : ∀ (n : Nat) (l0 : Nat), xI x xeV 8 [(0, va_rf (some l0))] [] (fX3_blanks_p8 n l0) := by
  intro n
  induction n with
  | zero => intro l0; exact xI.stuck
  | succ n ih =>
    intro l0
    unfold fX3_blanks_p8
    refine xr_aload_n 0 (r := (some l0)) F dX3_blanks_8 rfl ?_
    refine xr_bipush (9 : Int32) F dX3_blanks_9 rfl ?_
    refine xr_bipush (10 : Int32) F dX3_blanks_11 rfl ?_
    refine xr_VI (y := yX3_isAt) (As := [.int (9 : Int32), .int (10 : Int32)]) (r := (some l0)) F (hno _) dX3_blanks_13 (fun z => fX3_isAt_m (xFG F) z (9 : Int32) (10 : Int32)) (Or.inl rfl) (ci := 39) (C := RX3) (T := TX3) rfl q3518 q3515 q3517 qs56 (xroom hRm (Nat.le_of_ble_eq_true rfl) (Nat.le_of_ble_eq_true rfl)) ⟨by decide, by decide⟩ n_X3_isAt rfl (xcat (Nat.le_of_ble_eq_true rfl)) (fun v13 => ?_)
    refine xr_if_ne 30 F dX3_blanks_16 rfl ?_ ?_
    · refine xr_aload_n 0 (r := (some l0)) F dX3_blanks_19 rfl ?_
      refine xr_bipush (32 : Int32) F dX3_blanks_20 rfl ?_
      refine xr_bipush (32 : Int32) F dX3_blanks_22 rfl ?_
      refine xr_VI (y := yX3_isAt) (As := [.int (32 : Int32), .int (32 : Int32)]) (r := (some l0)) F (hno _) dX3_blanks_24 (fun z => fX3_isAt_m (xFG F) z (32 : Int32) (32 : Int32)) (Or.inl rfl) (ci := 39) (C := RX3) (T := TX3) rfl q3518 q3515 q3517 qs56 (xroom hRm (Nat.le_of_ble_eq_true rfl) (Nat.le_of_ble_eq_true rfl)) ⟨by decide, by decide⟩ n_X3_isAt rfl (xcat (Nat.le_of_ble_eq_true rfl)) (fun v24 => ?_)
      refine xr_if_eq 43 F dX3_blanks_27 rfl ?_ ?_
      · refine xr_aload_n 0 (r := (some l0)) F dX3_blanks_43 rfl ?_
        refine xr_aload_n 0 (r := (some l0)) F dX3_blanks_44 rfl ?_
        refine xr_gI (r := (some l0)) (ref := "ReserveLedgerModel") F dX3_blanks_45 (C := RX3) (T := TX3) (N := 25) rfl (by decide) (Or.inl q3407) (Or.inl rfl) (fun v45 => ?_)
        refine xr_put (r := (some l0)) (ref := "ReserveLedgerModel") F dX3_blanks_48 xk_39 (by decide) (Or.inl q3408) (Or.inl rfl) (Or.inl rfl) ⟨rfl, rfl⟩ ?_
        exact xr_vret F dX3_blanks_51
      · exact xI.sub [0] rfl (fX3_blanks_p30_ok F hnL hRm hno hmn ih l0)
    · exact xI.sub [0] rfl (fX3_blanks_p30_ok F hnL hRm hno hmn ih l0)
theorem fX3_blanks_m {l : Launch} {D : xD} {s0 : State} {b0 : Nat} {Γ : Nat → Option Nat} (G : xG l D s0 b0 Γ) (a0 : Nat) : xMeth l D s0 Γ yX3_blanks (Cond.code yX3_blanks cX3_blanks 1 none) (2) (34) [.ref a0] xeV (fX3_blanks a0) := by
  refine xMeth.of (lv0 := [(0, va_rf (some a0))]) G (by decide +kernel) (Or.inl rfl) (Nat.le_of_ble_eq_true rfl) rfl (fun x F hnL hRm hmn ht e1 e2 e3 e4 => ?_)
  have hno : ∀ pc, xNo x pc := fun pc z hz => by rw [ht.1 rfl] at hz; cases hz
  unfold fX3_blanks
  refine xr_aload_n 0 (r := (some a0)) F dX3_blanks_0 rfl ?_
  refine xr_VI (y := yX3_hasFailed) (As := []) (r := (some a0)) F (hno _) dX3_blanks_1 (fun z => fX3_hasFailed_m (xFG F) z) (Or.inl rfl) (ci := 39) (C := RX3) (T := TX3) rfl q3514 q3511 q3513 qs55 (xroom hRm (Nat.le_of_ble_eq_true rfl) (Nat.le_of_ble_eq_true rfl)) ⟨by decide, by decide⟩ n_X3_hasFailed rfl (xcat (Nat.le_of_ble_eq_true rfl)) (fun v1 => ?_)
  refine xr_if_eq 8 F dX3_blanks_4 rfl ?_ ?_
  · exact xI.sub [0] rfl (fX3_blanks_p8_ok F hnL hRm hno hmn xFU a0)
  · exact xr_vret F dX3_blanks_7
theorem fX3_takesSign_p25_ok {x : xC} (F : xF x RX3 cX3_takesSign (some .boolean)) (hnL : xnL x = 3) (hRm : ∃ dc ds, x.2.2.2.1 = { frames := 3, cells := dc, slots := ds, locals := 54 }) (hno : ∀ pc, xNo x pc) (hmn : xmn x = "takesSign" ∧ xmy x yX3_takesSign) (l0 : Nat) (s0 : Int32) : xI x xeI 25 [(0, va_rf (some l0))] [.int s0] (fX3_takesSign_p25 l0 s0) := by
  unfold fX3_takesSign_p25
  refine xs_i_n [0] F dX3_takesSign_25 hnL rfl rfl (xk1 rfl rfl xk0) ?_
  refine xr_iload_n 0 F dX3_takesSign_26 rfl ?_
  refine xr_if_eq 40 F dX3_takesSign_27 rfl ?_ ?_
  · refine xr_iload_n 0 F dX3_takesSign_40 rfl ?_
    exact xr_nret F dX3_takesSign_41
  · refine xr_aload_n 1 (r := (some l0)) F dX3_takesSign_30 rfl ?_
    refine xr_dup F dX3_takesSign_31 (xrf_cat _) ?_
    refine xr_gI (r := (some l0)) (ref := "ReserveLedgerModel") F dX3_takesSign_32 (C := RX3) (T := TX3) (N := 25) rfl (by decide) (Or.inl q3407) (Or.inl rfl) (fun v32 => ?_)
    refine xr_iconst (1 : Int32) F dX3_takesSign_35 rfl ?_
    refine xr_iadd F dX3_takesSign_36 ?_
    refine xr_put (r := (some l0)) (ref := "ReserveLedgerModel") F dX3_takesSign_37 xk_39 (by decide) (Or.inl q3407) (Or.inl rfl) (Or.inl rfl) ⟨rfl, rfl⟩ ?_
    refine xr_iload_n 0 F dX3_takesSign_40 rfl ?_
    exact xr_nret F dX3_takesSign_41
theorem fX3_takesSign_p24_ok {x : xC} (F : xF x RX3 cX3_takesSign (some .boolean)) (hnL : xnL x = 3) (hRm : ∃ dc ds, x.2.2.2.1 = { frames := 3, cells := dc, slots := ds, locals := 54 }) (hno : ∀ pc, xNo x pc) (hmn : xmn x = "takesSign" ∧ xmy x yX3_takesSign) (l0 : Nat) : xI x xeI 24 [(0, va_rf (some l0))] [] (fX3_takesSign_p24 l0) := by
  unfold fX3_takesSign_p24
  refine xr_iconst (0 : Int32) F dX3_takesSign_24 rfl ?_
  exact xI.sub [0] rfl (fX3_takesSign_p25_ok F hnL hRm hno hmn l0 (0 : Int32))
theorem fX3_takesSign_m {l : Launch} {D : xD} {s0 : State} {b0 : Nat} {Γ : Nat → Option Nat} (G : xG l D s0 b0 Γ) (a0 : Nat) (p0 : Int32) : xMeth l D s0 Γ yX3_takesSign (Cond.code yX3_takesSign cX3_takesSign 3 (some .boolean)) (3) (54) [.ref a0, .int p0] xeI (fX3_takesSign a0 p0) := by
  refine xMeth.of (lv0 := [(0, va_rf (some a0)), (1, .int p0)]) G (by decide +kernel) (Or.inl rfl) (Nat.le_of_ble_eq_true rfl) rfl (fun x F hnL hRm hmn ht e1 e2 e3 e4 => ?_)
  have hno : ∀ pc, xNo x pc := fun pc z hz => by rw [ht.1 rfl] at hz; cases hz
  unfold fX3_takesSign
  refine xr_aload_n 0 (r := (some a0)) F dX3_takesSign_0 rfl ?_
  refine xr_VV (y := yX3_blanks) (As := []) (r := (some a0)) F (hno _) dX3_takesSign_1 (fun z => fX3_blanks_m (xFG F) z) (Or.inl rfl) (ci := 39) (C := RX3) (T := TX3) rfl q3510 q3507 q3509 qs54 (xroom hRm (Nat.le_of_ble_eq_true rfl) (Nat.le_of_ble_eq_true rfl)) ⟨by decide, by decide⟩ n_X3_blanks rfl (xcat (Nat.le_of_ble_eq_true rfl)) (fun _ => ?_)
  refine xr_aload_n 0 (r := (some a0)) F dX3_takesSign_4 rfl ?_
  refine xr_VI (y := yX3_hasFailed) (As := []) (r := (some a0)) F (hno _) dX3_takesSign_5 (fun z => fX3_hasFailed_m (xFG F) z) (Or.inl rfl) (ci := 39) (C := RX3) (T := TX3) rfl q3514 q3511 q3513 qs55 (xroom hRm (Nat.le_of_ble_eq_true rfl) (Nat.le_of_ble_eq_true rfl)) ⟨by decide, by decide⟩ n_X3_hasFailed rfl (xcat (Nat.le_of_ble_eq_true rfl)) (fun v5 => ?_)
  refine xr_if_ne 24 F dX3_takesSign_8 rfl ?_ ?_
  · refine xr_aload_n 0 (r := (some a0)) F dX3_takesSign_11 rfl ?_
    refine xr_iload_n 1 F dX3_takesSign_12 rfl ?_
    refine xr_iload_n 1 F dX3_takesSign_13 rfl ?_
    refine xr_VI (y := yX3_isAt) (As := [.int p0, .int p0]) (r := (some a0)) F (hno _) dX3_takesSign_14 (fun z => fX3_isAt_m (xFG F) z p0 p0) (Or.inl rfl) (ci := 39) (C := RX3) (T := TX3) rfl q3518 q3515 q3517 qs56 (xroom hRm (Nat.le_of_ble_eq_true rfl) (Nat.le_of_ble_eq_true rfl)) ⟨by decide, by decide⟩ n_X3_isAt rfl (xcat (Nat.le_of_ble_eq_true rfl)) (fun v14 => ?_)
    refine xr_if_eq 24 F dX3_takesSign_17 rfl ?_ ?_
    · exact xI.sub [0] rfl (fX3_takesSign_p24_ok F hnL hRm hno hmn a0)
    · refine xr_iconst (1 : Int32) F dX3_takesSign_20 rfl ?_
      refine xr_goto 25 F dX3_takesSign_21 rfl ?_
      exact xI.sub [0] rfl (fX3_takesSign_p25_ok F hnL hRm hno hmn a0 (1 : Int32))
  · exact xI.sub [0] rfl (fX3_takesSign_p24_ok F hnL hRm hno hmn a0)
