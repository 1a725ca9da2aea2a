theorem fX4_byAges_p26_ok {x : xC} (F : xF x RX4 cX4_byAges none) (hnL : xnL x = 5) (hRm : ∃ dc ds, x.2.2.2.1 = { frames := 6, cells := dc, slots := ds, locals := 138 }) (hno : ∀ pc, xNo x pc) (hmn : xmn x = "byAges" ∧ xmy x yX4_byAges) {k3 : Nat → Option Nat → Int32 → Int32 → Int32 → xM (Unit)} (hk3 : ∀ (l0 : Nat) (l1 : Option Nat) (l2 : Int32) (l3 : Int32) (l4 : Int32), xI x xeV 3 [(0, va_rf (some l0)), (1, va_rf l1), (2, .int l2), (3, .int l3), (4, .int l4)] [] (k3 l0 l1 l2 l3 l4)) (l0 : Nat) (l1 : Option Nat) (l2 : Int32) (l3 : Int32) (l4 : Int32) (s0 : Int32) (s1 : Nat) : xI x xeV 26 [(0, va_rf (some l0)), (1, va_rf l1), (2, .int l2), (3, .int l3), (4, .int l4)] [.int s0, va_rf (some s1)] (fX4_byAges_p26 k3 l0 l1 l2 l3 l4 s0 s1) := by
  unfold fX4_byAges_p26
  refine xr_iconst (5 : Int32) F dX4_byAges_26 rfl ?_
  refine xr_aload_n 0 (r := (some l0)) F dX4_byAges_27 rfl ?_
  refine xr_gI (r := (some l0)) (ref := "ReserveLedger$Parser") F dX4_byAges_28 (C := RX4) (T := TX4) (N := 5) rfl (by decide) (Or.inl q1756) (Or.inl rfl) (fun v28 => ?_)
  refine xr_VV (y := yX4_require) (As := [.int s0, .int (5 : Int32), .int v28]) (r := (some s1)) F (hno _) dX4_byAges_31 (fun z => fX4_require_m (xFG F) z s0 (5 : Int32) v28) (Or.inl rfl) (ci := 17) (C := RX4) (T := TX4) rfl q1810 q1807 q1809 qs20 (xroom hRm (Nat.le_of_ble_eq_true rfl) (Nat.le_of_ble_eq_true rfl)) ⟨by decide, by decide⟩ n_X4_require rfl (xcat (Nat.le_of_ble_eq_true rfl)) (fun _ => ?_)
  refine xr_aload_n 1 (r := l1) F dX4_byAges_34 rfl ?_
  refine xr_iload 4 F dX4_byAges_35 rfl ?_
  refine xr_aload_n 0 (r := (some l0)) F dX4_byAges_37 rfl ?_
  refine xr_iconst (0 : Int32) F dX4_byAges_38 rfl ?_
  refine xr_iload_n 3 F dX4_byAges_39 rfl ?_
  refine xr_VI (y := yX4_number) (As := [.int (0 : Int32), .int l3]) (r := (some l0)) F (hno _) dX4_byAges_40 (fun z => fX4_number_m (xFG F) z (0 : Int32) l3) (Or.inl rfl) (ci := 17) (C := RX4) (T := TX4) rfl q1802 q1799 q1801 qs18 (xroom hRm (Nat.le_of_ble_eq_true rfl) (Nat.le_of_ble_eq_true rfl)) ⟨by decide, by decide⟩ n_X4_number rfl (xcat (Nat.le_of_ble_eq_true rfl)) (fun v40 => ?_)
  refine xr_iast (r := l1) F dX4_byAges_43 ?_
  refine xs_inc [4, 0, 1, 2, 3] F dX4_byAges_44 rfl hnL rfl rfl (xk1 rfl rfl (xk1 rfl rfl (xk1 rfl rfl (xk2 rfl rfl xk0)))) (fun x4_44 => ?_)
  refine xr_aload_n 1 (r := (some l0)) F dX4_byAges_47 rfl ?_
  refine xr_aload_n 1 (r := (some l0)) F dX4_byAges_48 rfl ?_
  refine xr_VI (y := yX4_peek) (As := []) (r := (some l0)) F (hno _) dX4_byAges_49 (fun z => fX4_peek_m (xFG F) z) (Or.inl rfl) (ci := 17) (C := RX4) (T := TX4) rfl q1778 q1775 q1777 qs14 (xroom hRm (Nat.le_of_ble_eq_true rfl) (Nat.le_of_ble_eq_true rfl)) ⟨by decide, by decide⟩ n_X4_peek rfl (xcat (Nat.le_of_ble_eq_true rfl)) (fun v49 => ?_)
  refine xr_VI (y := yX4_isDigit) (As := [.int v49]) (r := (some l0)) F (hno _) dX4_byAges_52 (fun z => fX4_isDigit_m (xFG F) z v49) (Or.inl rfl) (ci := 17) (C := RX4) (T := TX4) rfl q1806 q1803 q1805 qs19 (xroom hRm (Nat.le_of_ble_eq_true rfl) (Nat.le_of_ble_eq_true rfl)) ⟨by decide, by decide⟩ n_X4_isDigit rfl (xcat (Nat.le_of_ble_eq_true rfl)) (fun v52 => ?_)
  refine xr_if_ne 3 F dX4_byAges_55 rfl ?_ ?_
  · exact xr_vret F dX4_byAges_58
  · exact xI.sub [1, 2, 3, 4, 0] rfl (hk3 l0 l1 l2 l3 x4_44)
theorem fX4_byAges_p21_ok {x : xC} (F : xF x RX4 cX4_byAges none) (hnL : xnL x = 5) (hRm : ∃ dc ds, x.2.2.2.1 = { frames := 6, cells := dc, slots := ds, locals := 138 }) (hno : ∀ pc, xNo x pc) (hmn : xmn x = "byAges" ∧ xmy x yX4_byAges) {k3 : Nat → Option Nat → Int32 → Int32 → Int32 → xM (Unit)} (hk3 : ∀ (l0 : Nat) (l1 : Option Nat) (l2 : Int32) (l3 : Int32) (l4 : Int32), xI x xeV 3 [(0, va_rf (some l0)), (1, va_rf l1), (2, .int l2), (3, .int l3), (4, .int l4)] [] (k3 l0 l1 l2 l3 l4)) (l0 : Nat) (l1 : Option Nat) (l2 : Int32) (l3 : Int32) (l4 : Int32) (s0 : Nat) : xI x xeV 21 [(0, va_rf (some l0)), (1, va_rf l1), (2, .int l2), (3, .int l3), (4, .int l4)] [va_rf (some s0)] (fX4_byAges_p21 k3 l0 l1 l2 l3 l4 s0) := by
  unfold fX4_byAges_p21
  refine xr_iconst (1 : Int32) F dX4_byAges_21 rfl ?_
  refine xr_goto 26 F dX4_byAges_22 rfl ?_
  exact xI.sub [0, 1, 2, 3, 4] rfl (fX4_byAges_p26_ok F hnL hRm hno hmn hk3 l0 l1 l2 l3 l4 (1 : Int32) s0)
theorem fX4_byAges_p3_ok {x : xC} (F : xF x RX4 cX4_byAges none) (hnL : xnL x = 5) (hRm : ∃ dc ds, x.2.2.2.1 = { frames := 6, cells := dc, slots := ds, locals := 138 }) (hno : ∀ pc, xNo x pc) (hmn : xmn x = "byAges" ∧ xmy x yX4_byAges) : ∀ (n : Nat) (l0 : Nat) (l1 : Option Nat) (l2 : Int32) (l3 : Int32) (l4 : Int32), xI x xeV 3 [(0, va_rf (some l0)), (1, va_rf l1), (2, .int l2), (3, .int l3), (4, .int l4)] [] (fX4_byAges_p3 n l0 l1 l2 l3 l4) := by
  intro n
  induction n with
  | zero => intro l0 l1 l2 l3 l4; exact xI.stuck
  | succ n ih =>
    intro l0 l1 l2 l3 l4
    unfold fX4_byAges_p3
    refine xr_aload_n 0 (r := (some l0)) F dX4_byAges_3 rfl ?_
    refine xr_iload 4 F dX4_byAges_4 rfl ?_
    refine xr_iload_n 2 F dX4_byAges_6 rfl ?_
    refine xr_icmp_le 21 F dX4_byAges_7 rfl ?_ ?_
    · exact xI.sub [0, 1, 2, 3, 4] rfl (fX4_byAges_p21_ok F hnL hRm hno hmn ih l0 l1 l2 l3 l4 l0)
    · refine xr_aload_n 0 (r := (some l0)) F dX4_byAges_10 rfl ?_
      refine xr_aload_n 0 (r := (some l0)) F dX4_byAges_11 rfl ?_
      refine xr_VI (y := yX4_peek) (As := []) (r := (some l0)) F (hno _) dX4_byAges_12 (fun z => fX4_peek_m (xFG F) z) (Or.inl rfl) (ci := 17) (C := RX4) (T := TX4) rfl q1778 q1775 q1777 qs14 (xroom hRm (Nat.le_of_ble_eq_true rfl) (Nat.le_of_ble_eq_true rfl)) ⟨by decide, by decide⟩ n_X4_peek rfl (xcat (Nat.le_of_ble_eq_true rfl)) (fun v12 => ?_)
      refine xr_VI (y := yX4_isDigit) (As := [.int v12]) (r := (some l0)) F (hno _) dX4_byAges_15 (fun z => fX4_isDigit_m (xFG F) z v12) (Or.inl rfl) (ci := 17) (C := RX4) (T := TX4) rfl q1806 q1803 q1805 qs19 (xroom hRm (Nat.le_of_ble_eq_true rfl) (Nat.le_of_ble_eq_true rfl)) ⟨by decide, by decide⟩ n_X4_isDigit rfl (xcat (Nat.le_of_ble_eq_true rfl)) (fun v15 => ?_)
      refine xr_if_ne 25 F dX4_byAges_18 rfl ?_ ?_
      · exact xI.sub [0, 1, 2, 3, 4] rfl (fX4_byAges_p21_ok F hnL hRm hno hmn ih l0 l1 l2 l3 l4 l0)
      · refine xr_iconst (0 : Int32) F dX4_byAges_25 rfl ?_
        exact xI.sub [0, 1, 2, 3, 4] rfl (fX4_byAges_p26_ok F hnL hRm hno hmn ih l0 l1 l2 l3 l4 (0 : Int32) l0)
theorem fX4_byAges_m {l : Launch} {D : xD} {s0 : State} {b0 : Nat} {Γ : Nat → Option Nat} (G : xG l D s0 b0 Γ) (a0 : Nat) (p0 : Option Nat) (p1 : Int32) (p2 : Int32) : xMeth l D s0 Γ yX4_byAges (Cond.code yX4_byAges cX4_byAges 5 none) (6) (138) [.ref a0, va_rf p0, .int p1, .int p2] xeV (fX4_byAges a0 p0 p1 p2) := by
  refine xMeth.of (lv0 := [(0, va_rf (some a0)), (1, va_rf p0), (2, .int p1), (3, .int p2)]) G (by decide +kernel) (Or.inl rfl) (by simp [lg_sl, xrf_cat, xct_i, xct_l, xct_d, xct_r]) (by simp [lv_args, xrf_cat, xct_i, xct_l, xct_d, xct_r, xrf_some]) (fun x F hnL hRm hmn ht e1 e2 e3 e4 => ?_)
  have hno : ∀ pc, xNo x pc := fun pc z hz => by rw [ht.1 rfl] at hz; cases hz
  unfold fX4_byAges
  refine xr_iconst (0 : Int32) F dX4_byAges_0 rfl ?_
  refine xr_letI (fun x4_1 => ?_)
  refine xs_i [0, 1, 2, 3] F dX4_byAges_1 hnL rfl rfl (xk1 rfl rfl (xk1 rfl rfl (xk1 rfl rfl (xk2 rfl rfl xk0)))) ?_
  exact xI.sub [1, 2, 3, 4, 0] rfl (fX4_byAges_p3_ok F hnL hRm hno hmn xFU a0 p0 p1 p2 x4_1)
theorem fX11_init_m {l : Launch} {D : xD} {s0 : State} {b0 : Nat} {Γ : Nat → Option Nat} (G : xG l D s0 b0 Γ) (a0 : Nat) (p0 : Option Nat) : xMeth l D s0 Γ yX11_init (Cond.code yX11_init cX11_init 2 none) (1) (20) [.ref a0, va_rf p0] xeV (fX11_init a0 p0) := by
  refine xMeth.of (lv0 := [(0, va_rf (some a0)), (1, va_rf p0)]) G (by decide +kernel) (Or.inl rfl) (by simp [lg_sl, xrf_cat, xct_i, xct_l, xct_d, xct_r]) (by simp [lv_args, xrf_cat, xct_i, xct_l, xct_d, xct_r, xrf_some]) (fun x F hnL hRm hmn ht e1 e2 e3 e4 => ?_)
  have hno : ∀ pc, xNo x pc := fun pc z hz => by rw [ht.1 rfl] at hz; cases hz
  unfold fX11_init
  refine xr_aload_n 0 (r := (some a0)) F dX11_init_0 rfl ?_
  refine xr_obj F dX11_init_1 q2266 q200 (q_objcode) (xroom hRm (Nat.le_of_ble_eq_true rfl) (Nat.le_of_ble_eq_true rfl)) (xcat (Nat.le_of_ble_eq_true rfl)) ?_
  refine xr_aload_n 0 (r := (some a0)) F dX11_init_4 rfl ?_
  refine xr_aload_n 1 (r := p0) F dX11_init_5 rfl ?_
  refine xr_put (r := (some a0)) (ref := "ReserveLedger$Named") F dX11_init_6 xk_26 (by decide) (Or.inl q2267) (Or.inl rfl) (Or.inr ⟨rfl, hmn.1, rfl, q2267⟩) (xr_rf _ _) ?_
  exact xr_vret F dX11_init_9
theorem fX4_open_p37_ok {x : xC} (F : xF x RX4 cX4_open none) (hnL : xnL x = 1) (hRm : ∃ dc ds, x.2.2.2.1 = { frames := 5, cells := dc, slots := ds, locals := 113 }) (hno : ∀ pc, xNo x pc) (hmn : xmn x = "open" ∧ xmy x yX4_open) (l0 : Nat) (s0 : Int32) (s1 : Nat) : xI x xeV 37 [(0, va_rf (some l0))] [.int s0, va_rf (some s1)] (fX4_open_p37 l0 s0 s1) := by
  unfold fX4_open_p37
  refine xr_iconst (4 : Int32) F dX4_open_37 rfl ?_
  refine xr_aload_n 0 (r := (some l0)) F dX4_open_38 rfl ?_
  refine xr_gI (r := (some l0)) (ref := "ReserveLedger$Parser") F dX4_open_39 (C := RX4) (T := TX4) (N := 5) rfl (by decide) (Or.inl q1756) (Or.inl rfl) (fun v39 => ?_)
  refine xr_VV (y := yX4_require) (As := [.int s0, .int (4 : Int32), .int v39]) (r := (some s1)) F (hno _) dX4_open_42 (fun z => fX4_require_m (xFG F) z s0 (4 : Int32) v39) (Or.inl rfl) (ci := 17) (C := RX4) (T := TX4) rfl q1810 q1807 q1809 qs20 (xroom hRm (Nat.le_of_ble_eq_true rfl) (Nat.le_of_ble_eq_true rfl)) ⟨by decide, by decide⟩ n_X4_require rfl (xcat (Nat.le_of_ble_eq_true rfl)) (fun _ => ?_)
  refine xr_aload_n 0 (r := (some l0)) F dX4_open_45 rfl ?_
  refine xr_dup F dX4_open_46 (xrf_cat _) ?_
  refine xr_gI (r := (some l0)) (ref := "ReserveLedger$Parser") F dX4_open_47 (C := RX4) (T := TX4) (N := 5) rfl (by decide) (Or.inl q1756) (Or.inl rfl) (fun v47 => ?_)
  refine xr_iconst (1 : Int32) F dX4_open_50 rfl ?_
  refine xr_iadd F dX4_open_51 ?_
  refine xr_put (r := (some l0)) (ref := "ReserveLedger$Parser") F dX4_open_52 xk_17 (by decide) (Or.inl q1756) (Or.inl rfl) (Or.inl rfl) ⟨rfl, rfl⟩ ?_
  refine xr_aload_n 0 (r := (some l0)) F dX4_open_55 rfl ?_
  refine xr_dup F dX4_open_56 (xrf_cat _) ?_
  refine xr_gI (r := (some l0)) (ref := "ReserveLedger$Parser") F dX4_open_57 (C := RX4) (T := TX4) (N := 5) rfl (by decide) (Or.inl q1757) (Or.inl rfl) (fun v57 => ?_)
  refine xr_iconst (1 : Int32) F dX4_open_60 rfl ?_
  refine xr_iadd F dX4_open_61 ?_
  refine xr_put (r := (some l0)) (ref := "ReserveLedger$Parser") F dX4_open_62 xk_17 (by decide) (Or.inl q1757) (Or.inl rfl) (Or.inl rfl) ⟨rfl, rfl⟩ ?_
  exact xr_vret F dX4_open_65
theorem fX4_open_p15_ok {x : xC} (F : xF x RX4 cX4_open none) (hnL : xnL x = 1) (hRm : ∃ dc ds, x.2.2.2.1 = { frames := 5, cells := dc, slots := ds, locals := 113 }) (hno : ∀ pc, xNo x pc) (hmn : xmn x = "open" ∧ xmy x yX4_open) (l0 : Nat) (s0 : Int32) (s1 : Nat) : xI x xeV 15 [(0, va_rf (some l0))] [.int s0, va_rf (some s1)] (fX4_open_p15 l0 s0 s1) := by
  unfold fX4_open_p15
  refine xr_iconst (1 : Int32) F dX4_open_15 rfl ?_
  refine xr_aload_n 0 (r := (some l0)) F dX4_open_16 rfl ?_
  refine xr_gI (r := (some l0)) (ref := "ReserveLedger$Parser") F dX4_open_17 (C := RX4) (T := TX4) (N := 5) rfl (by decide) (Or.inl q1756) (Or.inl rfl) (fun v17 => ?_)
  refine xr_VV (y := yX4_require) (As := [.int s0, .int (1 : Int32), .int v17]) (r := (some s1)) F (hno _) dX4_open_20 (fun z => fX4_require_m (xFG F) z s0 (1 : Int32) v17) (Or.inl rfl) (ci := 17) (C := RX4) (T := TX4) rfl q1810 q1807 q1809 qs20 (xroom hRm (Nat.le_of_ble_eq_true rfl) (Nat.le_of_ble_eq_true rfl)) ⟨by decide, by decide⟩ n_X4_require rfl (xcat (Nat.le_of_ble_eq_true rfl)) (fun _ => ?_)
  refine xr_aload_n 0 (r := (some l0)) F dX4_open_23 rfl ?_
  refine xr_aload_n 0 (r := (some l0)) F dX4_open_24 rfl ?_
  refine xr_gI (r := (some l0)) (ref := "ReserveLedger$Parser") F dX4_open_25 (C := RX4) (T := TX4) (N := 5) rfl (by decide) (Or.inl q1757) (Or.inl rfl) (fun v25 => ?_)
  refine xr_iconst (4 : Int32) F dX4_open_28 rfl ?_
  refine xr_icmp_ge 36 F dX4_open_29 rfl ?_ ?_
  · refine xr_iconst (0 : Int32) F dX4_open_36 rfl ?_
    exact xI.sub [0] rfl (fX4_open_p37_ok F hnL hRm hno hmn l0 (0 : Int32) l0)
  · refine xr_iconst (1 : Int32) F dX4_open_32 rfl ?_
    refine xr_goto 37 F dX4_open_33 rfl ?_
    exact xI.sub [0] rfl (fX4_open_p37_ok F hnL hRm hno hmn l0 (1 : Int32) l0)
theorem fX4_open_m {l : Launch} {D : xD} {s0 : State} {b0 : Nat} {Γ : Nat → Option Nat} (G : xG l D s0 b0 Γ) (a0 : Nat) : xMeth l D s0 Γ yX4_open (Cond.code yX4_open cX4_open 1 none) (5) (113) [.ref a0] xeV (fX4_open a0) := by
  refine xMeth.of (lv0 := [(0, va_rf (some a0))]) G (by decide +kernel) (Or.inl rfl) (Nat.le_of_ble_eq_true rfl) rfl (fun x F hnL hRm hmn ht e1 e2 e3 e4 => ?_)
  have hno : ∀ pc, xNo x pc := fun pc z hz => by rw [ht.1 rfl] at hz; cases hz
  unfold fX4_open
  refine xr_aload_n 0 (r := (some a0)) F dX4_open_0 rfl ?_
  refine xr_aload_n 0 (r := (some a0)) F dX4_open_1 rfl ?_
  refine xr_VI (y := yX4_peek) (As := []) (r := (some a0)) F (hno _) dX4_open_2 (fun z => fX4_peek_m (xFG F) z) (Or.inl rfl) (ci := 17) (C := RX4) (T := TX4) rfl q1778 q1775 q1777 qs14 (xroom hRm (Nat.le_of_ble_eq_true rfl) (Nat.le_of_ble_eq_true rfl)) ⟨by decide, by decide⟩ n_X4_peek rfl (xcat (Nat.le_of_ble_eq_true rfl)) (fun v2 => ?_)
  refine xr_bipush (40 : Int32) F dX4_open_5 rfl ?_
  refine xr_icmp_ne 14 F dX4_open_7 rfl ?_ ?_
  · refine xr_iconst (1 : Int32) F dX4_open_10 rfl ?_
    refine xr_goto 15 F dX4_open_11 rfl ?_
    exact xI.sub [0] rfl (fX4_open_p15_ok F hnL hRm hno hmn a0 (1 : Int32) a0)
  · refine xr_iconst (0 : Int32) F dX4_open_14 rfl ?_
    exact xI.sub [0] rfl (fX4_open_p15_ok F hnL hRm hno hmn a0 (0 : Int32) a0)
theorem fX4_sign_p14_ok {x : xC} (F : xF x RX4 cX4_sign none) (hnL : xnL x = 2) (hRm : ∃ dc ds, x.2.2.2.1 = { frames := 5, cells := dc, slots := ds, locals := 113 }) (hno : ∀ pc, xNo x pc) (hmn : xmn x = "sign" ∧ xmy x yX4_sign) (l0 : Nat) (s0 : Int32) (s1 : Nat) : xI x xeV 14 [(0, va_rf (some l0))] [.int s0, va_rf (some s1)] (fX4_sign_p14 l0 s0 s1) := by
  unfold fX4_sign_p14
  refine xr_iconst (1 : Int32) F dX4_sign_14 rfl ?_
  refine xr_aload_n 0 (r := (some l0)) F dX4_sign_15 rfl ?_
  refine xr_gI (r := (some l0)) (ref := "ReserveLedger$Parser") F dX4_sign_16 (C := RX4) (T := TX4) (N := 5) rfl (by decide) (Or.inl q1756) (Or.inl rfl) (fun v16 => ?_)
  refine xr_VV (y := yX4_require) (As := [.int s0, .int (1 : Int32), .int v16]) (r := (some s1)) F (hno _) dX4_sign_19 (fun z => fX4_require_m (xFG F) z s0 (1 : Int32) v16) (Or.inl rfl) (ci := 17) (C := RX4) (T := TX4) rfl q1810 q1807 q1809 qs20 (xroom hRm (Nat.le_of_ble_eq_true rfl) (Nat.le_of_ble_eq_true rfl)) ⟨by decide, by decide⟩ n_X4_require rfl (xcat (Nat.le_of_ble_eq_true rfl)) (fun _ => ?_)
  refine xr_aload_n 0 (r := (some l0)) F dX4_sign_22 rfl ?_
  refine xr_dup F dX4_sign_23 (xrf_cat _) ?_
  refine xr_gI (r := (some l0)) (ref := "ReserveLedger$Parser") F dX4_sign_24 (C := RX4) (T := TX4) (N := 5) rfl (by decide) (Or.inl q1756) (Or.inl rfl) (fun v24 => ?_)
  refine xr_iconst (1 : Int32) F dX4_sign_27 rfl ?_
  refine xr_iadd F dX4_sign_28 ?_
  refine xr_put (r := (some l0)) (ref := "ReserveLedger$Parser") F dX4_sign_29 xk_17 (by decide) (Or.inl q1756) (Or.inl rfl) (Or.inl rfl) ⟨rfl, rfl⟩ ?_
  exact xr_vret F dX4_sign_32
theorem fX4_sign_m {l : Launch} {D : xD} {s0 : State} {b0 : Nat} {Γ : Nat → Option Nat} (G : xG l D s0 b0 Γ) (a0 : Nat) (p0 : Int32) : xMeth l D s0 Γ yX4_sign (Cond.code yX4_sign cX4_sign 2 none) (5) (113) [.ref a0, .int p0] xeV (fX4_sign a0 p0) := by
  refine xMeth.of (lv0 := [(0, va_rf (some a0)), (1, .int p0)]) G (by decide +kernel) (Or.inl rfl) (Nat.le_of_ble_eq_true rfl) rfl (fun x F hnL hRm hmn ht e1 e2 e3 e4 => ?_)
  have hno : ∀ pc, xNo x pc := fun pc z hz => by rw [ht.1 rfl] at hz; cases hz
  unfold fX4_sign
  refine xr_aload_n 0 (r := (some a0)) F dX4_sign_0 rfl ?_
  refine xr_aload_n 0 (r := (some a0)) F dX4_sign_1 rfl ?_
  refine xr_VI (y := yX4_peek) (As := []) (r := (some a0)) F (hno _) dX4_sign_2 (fun z => fX4_peek_m (xFG F) z) (Or.inl rfl) (ci := 17) (C := RX4) (T := TX4) rfl q1778 q1775 q1777 qs14 (xroom hRm (Nat.le_of_ble_eq_true rfl) (Nat.le_of_ble_eq_true rfl)) ⟨by decide, by decide⟩ n_X4_peek rfl (xcat (Nat.le_of_ble_eq_true rfl)) (fun v2 => ?_)
  refine xr_iload_n 1 F dX4_sign_5 rfl ?_
  refine xr_icmp_ne 13 F dX4_sign_6 rfl ?_ ?_
  · refine xr_iconst (1 : Int32) F dX4_sign_9 rfl ?_
    refine xr_goto 14 F dX4_sign_10 rfl ?_
    exact xI.sub [0] rfl (fX4_sign_p14_ok F hnL hRm hno hmn a0 (1 : Int32) a0)
  · refine xr_iconst (0 : Int32) F dX4_sign_13 rfl ?_
    exact xI.sub [0] rfl (fX4_sign_p14_ok F hnL hRm hno hmn a0 (0 : Int32) a0)
theorem fX4_close_m {l : Launch} {D : xD} {s0 : State} {b0 : Nat} {Γ : Nat → Option Nat} (G : xG l D s0 b0 Γ) (a0 : Nat) : xMeth l D s0 Γ yX4_close (Cond.code yX4_close cX4_close 1 none) (6) (134) [.ref a0] xeV (fX4_close a0) := by
  refine xMeth.of (lv0 := [(0, va_rf (some a0))]) G (by decide +kernel) (Or.inl rfl) (Nat.le_of_ble_eq_true rfl) rfl (fun x F hnL hRm hmn ht e1 e2 e3 e4 => ?_)
  have hno : ∀ pc, xNo x pc := fun pc z hz => by rw [ht.1 rfl] at hz; cases hz
  unfold fX4_close
  refine xr_aload_n 0 (r := (some a0)) F dX4_close_0 rfl ?_
  refine xr_bipush (41 : Int32) F dX4_close_1 rfl ?_
  refine xr_VV (y := yX4_sign) (As := [.int (41 : Int32)]) (r := (some a0)) F (hno _) dX4_close_3 (fun z => fX4_sign_m (xFG F) z (41 : Int32)) (Or.inl rfl) (ci := 17) (C := RX4) (T := TX4) rfl q2250 q2247 q2249 qs31 (xroom hRm (Nat.le_of_ble_eq_true rfl) (Nat.le_of_ble_eq_true rfl)) ⟨by decide, by decide⟩ n_X4_sign rfl (xcat (Nat.le_of_ble_eq_true rfl)) (fun _ => ?_)
  refine xr_aload_n 0 (r := (some a0)) F dX4_close_6 rfl ?_
  refine xr_dup F dX4_close_7 (xrf_cat _) ?_
  refine xr_gI (r := (some a0)) (ref := "ReserveLedger$Parser") F dX4_close_8 (C := RX4) (T := TX4) (N := 5) rfl (by decide) (Or.inl q1757) (Or.inl rfl) (fun v8 => ?_)
  refine xr_iconst (1 : Int32) F dX4_close_11 rfl ?_
  refine xr_isub F dX4_close_12 ?_
  refine xr_put (r := (some a0)) (ref := "ReserveLedger$Parser") F dX4_close_13 xk_17 (by decide) (Or.inl q1757) (Or.inl rfl) (Or.inl rfl) ⟨rfl, rfl⟩ ?_
  exact xr_vret F dX4_close_16
theorem fX12_init_m {l : Launch} {D : xD} {s0 : State} {b0 : Nat} {Γ : Nat → Option Nat} (G : xG l D s0 b0 Γ) (a0 : Nat) (p0 : Option Nat) (p1 : Option Nat) (p2 : Option Nat) : xMeth l D s0 Γ yX12_init (Cond.code yX12_init cX12_init 4 none) (1) (20) [.ref a0, va_rf p0, va_rf p1, va_rf p2] xeV (fX12_init a0 p0 p1 p2) := by
  refine xMeth.of (lv0 := [(0, va_rf (some a0)), (1, va_rf p0), (2, va_rf p1), (3, va_rf p2)]) G (by decide +kernel) (Or.inl rfl) (by simp [lg_sl, xrf_cat, xct_i, xct_l, xct_d, xct_r]) (by simp [lv_args, xrf_cat, xct_i, xct_l, xct_d, xct_r, xrf_some]) (fun x F hnL hRm hmn ht e1 e2 e3 e4 => ?_)
  have hno : ∀ pc, xNo x pc := fun pc z hz => by rw [ht.1 rfl] at hz; cases hz
  unfold fX12_init
  refine xr_aload_n 0 (r := (some a0)) F dX12_init_0 rfl ?_
  refine xr_obj F dX12_init_1 q2288 q200 (q_objcode) (xroom hRm (Nat.le_of_ble_eq_true rfl) (Nat.le_of_ble_eq_true rfl)) (xcat (Nat.le_of_ble_eq_true rfl)) ?_
  refine xr_aload_n 0 (r := (some a0)) F dX12_init_4 rfl ?_
  refine xr_aload_n 1 (r := p0) F dX12_init_5 rfl ?_
  refine xr_put (r := (some a0)) (ref := "ReserveLedger$Pair") F dX12_init_6 xk_27 (by decide) (Or.inl q2289) (Or.inl rfl) (Or.inr ⟨rfl, hmn.1, rfl, q2289⟩) (xr_rf _ _) ?_
  refine xr_aload_n 0 (r := (some a0)) F dX12_init_9 rfl ?_
  refine xr_aload_n 2 (r := p1) F dX12_init_10 rfl ?_
  refine xr_put (r := (some a0)) (ref := "ReserveLedger$Pair") F dX12_init_11 xk_27 (by decide) (Or.inl q2290) (Or.inl rfl) (Or.inr ⟨rfl, hmn.1, rfl, q2290⟩) (xr_rf _ _) ?_
  refine xr_aload_n 0 (r := (some a0)) F dX12_init_14 rfl ?_
  refine xr_aload_n 3 (r := p2) F dX12_init_15 rfl ?_
  refine xr_put (r := (some a0)) (ref := "ReserveLedger$Pair") F dX12_init_16 xk_27 (by decide) (Or.inl q2291) (Or.inl rfl) (Or.inr ⟨rfl, hmn.1, rfl, q2291⟩) (xr_rf _ _) ?_
  exact xr_vret F dX12_init_19
theorem fX4_choice_m {l : Launch} {D : xD} {s0 : State} {b0 : Nat} {Γ : Nat → Option Nat} (G : xG l D s0 b0 Γ) {S : Nat → xM (Option Nat)} {frS loS : Nat} (hS : ∀ (b0_ : Nat), xMeth l D s0 Γ yX4_sum (Cond.code yX4_sum cX4_sum 3 (some (.object "ReserveLedger$Node"))) frS loS [.ref b0_] xeR (S b0_)) (a0 : Nat) (p0 : Option Nat) : xMeth l D s0 Γ yX4_choice (Cond.code yX4_choice cX4_choice 4 (some (.object "ReserveLedger$Node"))) (frS + 7) (loS + 154) [.ref a0, va_rf p0] xeR (fX4_choice S a0 p0) := by
  refine xMeth.of (lv0 := [(0, va_rf (some a0)), (1, va_rf p0)]) G (by decide +kernel) (Or.inl rfl) (by simp [lg_sl, xrf_cat, xct_i, xct_l, xct_d, xct_r]) (by simp [lv_args, xrf_cat, xct_i, xct_l, xct_d, xct_r, xrf_some]) (fun x F hnL hRm hmn ht e1 e2 e3 e4 => ?_)
  have hno : ∀ pc, xNo x pc := fun pc z hz => by rw [ht.1 rfl] at hz; cases hz
  have hS : ∀ (b0_ : Nat), xMx x yX4_sum (Cond.code yX4_sum cX4_sum 3 (some (.object "ReserveLedger$Node"))) frS loS [.ref b0_] xeR (S b0_) := by
    intro b0_
    unfold xMx
    rw [e1, e2, e3, e4]
    exact hS b0_
  unfold fX4_choice
  refine xr_aload_n 0 (r := (some a0)) F dX4_choice_0 rfl ?_
  refine xr_VV (y := yX4_open) (As := []) (r := (some a0)) F (hno _) dX4_choice_1 (fun z => fX4_open_m (xFG F) z) (Or.inl rfl) (ci := 17) (C := RX4) (T := TX4) rfl q2242 q2239 q2241 qs29 (xroom hRm (by omega) (by omega)) ⟨by decide, by decide⟩ n_X4_open rfl (xcat (Nat.le_of_ble_eq_true rfl)) (fun _ => ?_)
  refine xr_aload_n 0 (r := (some a0)) F dX4_choice_4 rfl ?_
  refine xr_VR (y := yX4_sum) (As := []) (r := (some a0)) F (hno _) dX4_choice_5 (fun z => hS z) (Or.inl rfl) (ci := 17) (C := RX4) (T := TX4) rfl q2230 q2227 q2229 qs26 (xroom hRm (by omega) (by omega)) ⟨by decide, by decide⟩ n_X4_sum rfl (xcat (Nat.le_of_ble_eq_true rfl)) (fun v5 => ?_)
  refine xs_a_n [0, 1] F dX4_choice_8 hnL rfl rfl (xk1 rfl rfl (xk2 rfl (xrf_cat _) xk0)) ?_
  refine xr_aload_n 1 (r := (some a0)) F dX4_choice_9 rfl ?_
  refine xr_bipush (44 : Int32) F dX4_choice_10 rfl ?_
  refine xr_VV (y := yX4_sign) (As := [.int (44 : Int32)]) (r := (some a0)) F (hno _) dX4_choice_12 (fun z => fX4_sign_m (xFG F) z (44 : Int32)) (Or.inl rfl) (ci := 17) (C := RX4) (T := TX4) rfl q2250 q2247 q2249 qs31 (xroom hRm (by omega) (by omega)) ⟨by decide, by decide⟩ n_X4_sign rfl (xcat (Nat.le_of_ble_eq_true rfl)) (fun _ => ?_)
  refine xr_aload_n 1 (r := (some a0)) F dX4_choice_15 rfl ?_
  refine xr_VR (y := yX4_sum) (As := []) (r := (some a0)) F (hno _) dX4_choice_16 (fun z => hS z) (Or.inl rfl) (ci := 17) (C := RX4) (T := TX4) rfl q2230 q2227 q2229 qs26 (xroom hRm (by omega) (by omega)) ⟨by decide, by decide⟩ n_X4_sum rfl (xcat (Nat.le_of_ble_eq_true rfl)) (fun v16 => ?_)
  refine xs_a_n [0, 1, 2] F dX4_choice_19 hnL rfl rfl (xk2 rfl (xrf_cat _) (xk1 rfl rfl (xk1 rfl rfl xk0))) ?_
  refine xr_aload_n 2 (r := (some a0)) F dX4_choice_20 rfl ?_
  refine xr_VV (y := yX4_close) (As := []) (r := (some a0)) F (hno _) dX4_choice_21 (fun z => fX4_close_m (xFG F) z) (Or.inl rfl) (ci := 17) (C := RX4) (T := TX4) rfl q2246 q2243 q2245 qs30 (xroom hRm (by omega) (by omega)) ⟨by decide, by decide⟩ n_X4_close rfl (xcat (Nat.le_of_ble_eq_true rfl)) (fun _ => ?_)
  refine xr_new F dX4_choice_24 xk_27 xdf_27 q2283 q2284 q168 (fun v24 => ?_)
  refine xr_dup F dX4_choice_27 (xrf_cat _) ?_
  refine xr_aload_n 3 (r := p0) F dX4_choice_28 rfl ?_
  refine xr_aload_n 1 (r := v5) F dX4_choice_29 rfl ?_
  refine xr_aload_n 0 (r := v16) F dX4_choice_30 rfl ?_
  refine xr_IV (y := yX12_init) (As := [va_rf p0, va_rf v5, va_rf v16]) F (hno _) dX4_choice_31 (fX12_init_m (xFG F) v24 p0 v5 v16) rfl rfl q2287 (Or.inl q2285) q2286 (xroom hRm (by omega) (by omega)) ⟨by decide, by decide⟩ n_X12_init rfl (xcat (Nat.le_of_ble_eq_true rfl)) (fun _ => ?_)
  exact xr_aret (v := (some v24)) F dX4_choice_34 (Or.inl ⟨_, rfl⟩)
theorem fJ13_checkLength_m {l : Launch} {D : xD} {s0 : State} {b0 : Nat} {Γ : Nat → Option Nat} (G : xG l D s0 b0 Γ) (p0 : Int32) (p1 : Int32) : xMeth l D s0 Γ yJ13_checkLength (Cond.code yJ13_checkLength cJ13_checkLength 2 none) (1) (12) [.int p0, .int p1] xeV (fJ13_checkLength p0 p1) := by
  refine xMeth.of (lv0 := [(0, .int p0), (1, .int p1)]) G (by decide +kernel) (Or.inl rfl) (Nat.le_of_ble_eq_true rfl) rfl (fun x F hnL hRm hmn ht e1 e2 e3 e4 => ?_)
  have hno : ∀ pc, xNo x pc := fun pc z hz => by rw [ht.1 rfl] at hz; cases hz
  unfold fJ13_checkLength
  refine xr_iload_n 1 F dJ13_checkLength_0 rfl ?_
  refine xr_iload_n 0 F dJ13_checkLength_1 rfl ?_
  refine xr_icmp_ge 37 F dJ13_checkLength_2 rfl ?_ ?_
  · exact xr_vret F dJ13_checkLength_37
  · exact xI.stuck
theorem fJ13_copyOfRangeByte_m {l : Launch} {D : xD} {s0 : State} {b0 : Nat} {Γ : Nat → Option Nat} (G : xG l D s0 b0 Γ) (p0 : Option Nat) (p1 : Int32) (p2 : Int32) : xMeth l D s0 Γ yJ13_copyOfRangeByte (Cond.code yJ13_copyOfRangeByte cJ13_copyOfRangeByte 5 (some (.array .byte))) (2) (60) [va_rf p0, .int p1, .int p2] xeR (fJ13_copyOfRangeByte p0 p1 p2) := by
  refine xMeth.of (lv0 := [(0, va_rf p0), (1, .int p1), (2, .int p2)]) G (by decide +kernel) (Or.inl rfl) (by simp [lg_sl, xrf_cat, xct_i, xct_l, xct_d, xct_r]) (by simp [lv_args, xrf_cat, xct_i, xct_l, xct_d, xct_r, xrf_some]) (fun x F hnL hRm hmn ht e1 e2 e3 e4 => ?_)
  have hno : ∀ pc, xNo x pc := fun pc z hz => by rw [ht.1 rfl] at hz; cases hz
  unfold fJ13_copyOfRangeByte
  refine xr_iload_n 1 F dJ13_copyOfRangeByte_0 rfl ?_
  refine xr_iload_n 2 F dJ13_copyOfRangeByte_1 rfl ?_
  refine xr_SV (y := yJ13_checkLength) (As := [.int p1, .int p2]) F (hno _) dJ13_copyOfRangeByte_2 (fJ13_checkLength_m (xFG F) p1 p2) (Or.inl rfl) q483 q136 (Or.inl q481) q482 (xroom hRm (Nat.le_of_ble_eq_true rfl) (Nat.le_of_ble_eq_true rfl)) ⟨by decide, by decide⟩ n_J13_checkLength rfl (xcat (Nat.le_of_ble_eq_true rfl)) (fun _ => ?_)
  refine xr_iload_n 2 F dJ13_copyOfRangeByte_5 rfl ?_
  refine xr_iload_n 1 F dJ13_copyOfRangeByte_6 rfl ?_
  refine xr_isub F dJ13_copyOfRangeByte_7 ?_
  refine xr_letI (fun x3_8 => ?_)
  refine xs_i_n [0, 1] F dJ13_copyOfRangeByte_8 hnL rfl rfl (xk1 rfl rfl (xk1 rfl rfl xk0)) ?_
  refine xr_iload_n 0 F dJ13_copyOfRangeByte_9 rfl ?_
  refine xr_newa F dJ13_copyOfRangeByte_10 rfl (fun _ _ => rfl) (by decide) q301 (fun v10 => ?_)
  refine xs_a [0, 1, 2] F dJ13_copyOfRangeByte_12 hnL rfl rfl (xk2 rfl rfl (xk1 rfl rfl (xk1 rfl rfl xk0))) ?_
  refine xr_aload_n 2 (r := p0) F dJ13_copyOfRangeByte_14 rfl ?_
  refine xr_iload_n 3 F dJ13_copyOfRangeByte_15 rfl ?_
  refine xr_aload 0 (r := (some v10)) F dJ13_copyOfRangeByte_16 rfl ?_
  refine xr_iconst (0 : Int32) F dJ13_copyOfRangeByte_18 rfl ?_
  refine xr_aload_n 2 (r := p0) F dJ13_copyOfRangeByte_19 rfl ?_
  refine xr_len (r := p0) F dJ13_copyOfRangeByte_20 (fun v20 => ?_)
  refine xr_iload_n 3 F dJ13_copyOfRangeByte_21 rfl ?_
  refine xr_isub F dJ13_copyOfRangeByte_22 ?_
  refine xr_iload_n 1 F dJ13_copyOfRangeByte_23 rfl ?_
  refine xr_SI (y := yJ12_min) (As := [.int (v20 - p1), .int x3_8]) F (hno _) dJ13_copyOfRangeByte_24 (fJ12_min_m (xFG F) (v20 - p1) x3_8) (Or.inl rfl) q345 q135 (Or.inl q343) q344 (xroom hRm (Nat.le_of_ble_eq_true rfl) (Nat.le_of_ble_eq_true rfl)) ⟨by decide, by decide⟩ n_J12_min rfl (xcat (Nat.le_of_ble_eq_true rfl)) (fun v24 => ?_)
  refine xr_cpI (t := 0) (ty := .byte) (sr := p0) (dr := (some v10)) F dJ13_copyOfRangeByte_27 rfl rfl q346 q348 q347 q137 (xroom hRm (Nat.le_of_ble_eq_true rfl) (Nat.le_of_ble_eq_true rfl)) (xcat (Nat.le_of_ble_eq_true rfl)) ?_
  refine xr_aload 0 (r := (some v10)) F dJ13_copyOfRangeByte_30 rfl ?_
  exact xr_aret (v := (some v10)) F dJ13_copyOfRangeByte_32 (Or.inr ⟨_, rfl⟩)
theorem fJ13_copyOfRange_p10_ok {x : xC} (F : xF x RJ13 cJ13_copyOfRange (some (.array .byte))) (hnL : xnL x = 3) (hRm : ∃ dc ds, x.2.2.2.1 = { frames := 3, cells := dc, slots := ds, locals := 84 }) (hno : ∀ pc, xNo x pc) (hmn : xmn x = "copyOfRange" ∧ xmy x yJ13_copyOfRange) (l0 : Option Nat) (l1 : Int32) (l2 : Int32) : xI x xeR 10 [(0, va_rf l0), (1, .int l1), (2, .int l2)] [] (fJ13_copyOfRange_p10 l0 l1 l2) := by
  unfold fJ13_copyOfRange_p10
  refine xr_aload_n 0 (r := l0) F dJ13_copyOfRange_10 rfl ?_
  refine xr_iload_n 1 F dJ13_copyOfRange_11 rfl ?_
  refine xr_iload_n 2 F dJ13_copyOfRange_12 rfl ?_
  refine xr_SR (y := yJ13_copyOfRangeByte) (As := [va_rf l0, .int l1, .int l2]) F (hno _) dJ13_copyOfRange_13 (fJ13_copyOfRangeByte_m (xFG F) l0 l1 l2) (Or.inl rfl) q480 q136 (Or.inl q478) q479 (xroom hRm (Nat.le_of_ble_eq_true rfl) (Nat.le_of_ble_eq_true rfl)) ⟨by decide, by decide⟩ n_J13_copyOfRangeByte rfl (xcat (Nat.le_of_ble_eq_true rfl)) (fun v13 => ?_)
  exact xr_aret (v := v13) F dJ13_copyOfRange_16 (Or.inr ⟨_, rfl⟩)
theorem fJ13_copyOfRange_m {l : Launch} {D : xD} {s0 : State} {b0 : Nat} {Γ : Nat → Option Nat} (G : xG l D s0 b0 Γ) (p0 : Option Nat) (p1 : Int32) (p2 : Int32) : xMeth l D s0 Γ yJ13_copyOfRange (Cond.code yJ13_copyOfRange cJ13_copyOfRange 3 (some (.array .byte))) (3) (84) [va_rf p0, .int p1, .int p2] xeR (fJ13_copyOfRange p0 p1 p2) := by
  refine xMeth.of (lv0 := [(0, va_rf p0), (1, .int p1), (2, .int p2)]) G (by decide +kernel) (Or.inl rfl) (by simp [lg_sl, xrf_cat, xct_i, xct_l, xct_d, xct_r]) (by simp [lv_args, xrf_cat, xct_i, xct_l, xct_d, xct_r, xrf_some]) (fun x F hnL hRm hmn ht e1 e2 e3 e4 => ?_)
  have hno : ∀ pc, xNo x pc := fun pc z hz => by rw [ht.1 rfl] at hz; cases hz
  unfold fJ13_copyOfRange
  refine xr_iload_n 1 F dJ13_copyOfRange_0 rfl ?_
  refine xr_if_ne 10 F dJ13_copyOfRange_1 rfl ?_ ?_
  · refine xr_iload_n 2 F dJ13_copyOfRange_4 rfl ?_
    refine xr_aload_n 0 (r := p0) F dJ13_copyOfRange_5 rfl ?_
    refine xr_len (r := p0) F dJ13_copyOfRange_6 (fun v6 => ?_)
    refine xr_icmp_eq 17 F dJ13_copyOfRange_7 rfl ?_ ?_
    · refine xr_aload_n 0 (r := p0) F dJ13_copyOfRange_17 rfl ?_
      refine xr_clB (r := p0) F dJ13_copyOfRange_18 q336 q337 q338 q339 q340 q341 (xroom hRm (Nat.le_of_ble_eq_true rfl) (Nat.le_of_ble_eq_true rfl)) (xcat (Nat.le_of_ble_eq_true rfl)) (fun v18 => ?_)
      refine xr_castA (t := 0) (r := v18) F dJ13_copyOfRange_21 q342 (fun s9 c9 ty9 h9 g9 => by cases h9; exact g9) ?_
      exact xr_aret (v := v18) F dJ13_copyOfRange_24 (Or.inr ⟨_, rfl⟩)
    · exact xI.sub [0, 1, 2] rfl (fJ13_copyOfRange_p10_ok F hnL hRm hno hmn p0 p1 p2)
  · exact xI.sub [0, 1, 2] rfl (fJ13_copyOfRange_p10_ok F hnL hRm hno hmn p0 p1 p2)
theorem fJ7_getValue__J8_m {l : Launch} {D : xD} {s0 : State} {b0 : Nat} {Γ : Nat → Option Nat} (G : xG l D s0 b0 Γ) (a0 : Nat) : xMeth l D s0 Γ yJ7_getValue (Cond.code yJ7_getValue cJ7_getValue 1 (some (.array .byte))) (1) (12) [.ref a0] xeR (fJ7_getValue__J8 a0) := by
  refine xMeth.of (lv0 := [(0, va_rf (some a0))]) G (by decide +kernel) (Or.inl rfl) (Nat.le_of_ble_eq_true rfl) rfl (fun x F hnL hRm hmn ht e1 e2 e3 e4 => ?_)
  have hno : ∀ pc, xNo x pc := fun pc z hz => by rw [ht.1 rfl] at hz; cases hz
  unfold fJ7_getValue__J8
  refine xr_aload_n 0 (r := (some a0)) F dJ7_getValue_0 rfl ?_
  refine xr_gR (r := (some a0)) (ref := "java/lang/AbstractStringBuilder") F dJ7_getValue_1 (C := RJ8) (T := TJ8) (N := 4) rfl (by decide) (Or.inl q288) (Or.inl rfl) (fun v1 => ?_)
  exact xr_aret (v := v1) F dJ7_getValue_4 (Or.inr ⟨_, rfl⟩)
theorem fJ7_length__J8_m {l : Launch} {D : xD} {s0 : State} {b0 : Nat} {Γ : Nat → Option Nat} (G : xG l D s0 b0 Γ) (a0 : Nat) : xMeth l D s0 Γ yJ7_length (Cond.code yJ7_length cJ7_length 1 (some .int)) (1) (12) [.ref a0] xeI (fJ7_length__J8 a0) := by
  refine xMeth.of (lv0 := [(0, va_rf (some a0))]) G (by decide +kernel) (Or.inl rfl) (Nat.le_of_ble_eq_true rfl) rfl (fun x F hnL hRm hmn ht e1 e2 e3 e4 => ?_)
  have hno : ∀ pc, xNo x pc := fun pc z hz => by rw [ht.1 rfl] at hz; cases hz
  unfold fJ7_length__J8
  refine xr_aload_n 0 (r := (some a0)) F dJ7_length_0 rfl ?_
  refine xr_gI (r := (some a0)) (ref := "java/lang/AbstractStringBuilder") F dJ7_length_1 (C := RJ8) (T := TJ8) (N := 4) rfl (by decide) (Or.inl q291) (Or.inl rfl) (fun v1 => ?_)
  exact xr_iret F dJ7_length_4
theorem fJ8_length_m {l : Launch} {D : xD} {s0 : State} {b0 : Nat} {Γ : Nat → Option Nat} (G : xG l D s0 b0 Γ) (a0 : Nat) : xMeth l D s0 Γ yJ8_length (Cond.code yJ8_length cJ8_length 1 (some .int)) (2) (32) [.ref a0] xeI (fJ8_length a0) := by
  refine xMeth.of (lv0 := [(0, va_rf (some a0))]) G (by decide +kernel) (Or.inl rfl) (Nat.le_of_ble_eq_true rfl) rfl (fun x F hnL hRm hmn ht e1 e2 e3 e4 => ?_)
  have hno : ∀ pc, xNo x pc := fun pc z hz => by rw [ht.1 rfl] at hz; cases hz
  unfold fJ8_length
  refine xr_aload_n 0 (r := (some a0)) F dJ8_length_0 rfl ?_
  refine xr_SUI (y := yJ7_length) (As := []) (r := some a0) F (hno _) dJ8_length_1 (fun z => fJ7_length__J8_m (xFG F) z) rfl (ci := 4) (C := RJ8) (T := TJ8) rfl (by decide) q473 q472 q467 q468 q300 (xroom hRm (Nat.le_of_ble_eq_true rfl) (Nat.le_of_ble_eq_true rfl)) n_J7_length rfl (xcat (Nat.le_of_ble_eq_true rfl)) (fun v1 => ?_)
  exact xr_iret F dJ8_length_4
theorem fJ7_isLatin1__J8_m {l : Launch} {D : xD} {s0 : State} {b0 : Nat} {Γ : Nat → Option Nat} (G : xG l D s0 b0 Γ) (a0 : Nat) : xMeth l D s0 Γ yJ7_isLatin1 (Cond.code yJ7_isLatin1 cJ7_isLatin1 1 (some .boolean)) (1) (12) [.ref a0] xeI (fJ7_isLatin1__J8 a0) := by
  refine xMeth.of (lv0 := [(0, va_rf (some a0))]) G (by decide +kernel) (Or.inl rfl) (Nat.le_of_ble_eq_true rfl) rfl (fun x F hnL hRm hmn ht e1 e2 e3 e4 => ?_)
  have hno : ∀ pc, xNo x pc := fun pc z hz => by rw [ht.1 rfl] at hz; cases hz
  unfold fJ7_isLatin1__J8
  refine xr_gsi (k := 1) F dJ7_isLatin1_0 rfl q279 ?_
  refine xr_if_eq 17 F dJ7_isLatin1_3 rfl ?_ ?_
  · refine xr_iconst (0 : Int32) F dJ7_isLatin1_17 rfl ?_
    exact xr_zret F dJ7_isLatin1_18 rfl
  · refine xr_aload_n 0 (r := (some a0)) F dJ7_isLatin1_6 rfl ?_
    refine xr_gI (r := (some a0)) (ref := "java/lang/AbstractStringBuilder") F dJ7_isLatin1_7 (C := RJ8) (T := TJ8) (N := 4) rfl (by decide) (Or.inl q289) (Or.inl rfl) (fun v7 => ?_)
    refine xr_if_ne 17 F dJ7_isLatin1_10 rfl ?_ ?_
    · refine xr_iconst (1 : Int32) F dJ7_isLatin1_13 rfl ?_
      refine xr_goto 18 F dJ7_isLatin1_14 rfl ?_
      exact xr_zret F dJ7_isLatin1_18 rfl
    · refine xr_iconst (0 : Int32) F dJ7_isLatin1_17 rfl ?_
      exact xr_zret F dJ7_isLatin1_18 rfl
theorem fJ9_init_2_p79_ok {x : xC} (F : xF x RJ9 cJ9_init_2 none) (hnL : xnL x = 5) (hRm : ∃ dc ds, x.2.2.2.1 = { frames := 4, cells := dc, slots := ds, locals := 106 }) (hno : ∀ pc, xNo x pc) (hmn : xmn x = "<init>" ∧ xmy x yJ9_init_2) (l0 : Nat) (l3 : Option Nat) (l4 : Int32) : xI x xeV 79 [(0, va_rf (some l0)), (3, va_rf l3), (4, .int l4)] [] (fJ9_init_2_p79 l0 l3 l4) := by
  unfold fJ9_init_2_p79
  refine xr_aload_n 0 (r := (some l0)) F dJ9_init_2_79 rfl ?_
  refine xr_iconst (1 : Int32) F dJ9_init_2_80 rfl ?_
  refine xr_pN (r := (some l0)) (ref := "java/lang/String") F dJ9_init_2_81 xk_5 (by decide) (Or.inl q530) (Or.inl rfl) (Or.inr ⟨rfl, hmn.1, rfl, q530⟩) ?_
  refine xr_aload_n 0 (r := (some l0)) F dJ9_init_2_84 rfl ?_
  refine xr_aload_n 1 (r := l3) F dJ9_init_2_85 rfl ?_
  refine xr_iconst (0 : Int32) F dJ9_init_2_86 rfl ?_
  refine xr_iload 2 F dJ9_init_2_87 rfl ?_
  refine xr_iconst (1 : Int32) F dJ9_init_2_89 rfl ?_
  refine xr_ishl F dJ9_init_2_90 ?_
  refine xr_SR (y := yJ13_copyOfRange) (As := [va_rf l3, .int (0 : Int32), .int (l4 <<< ((1 : Int32) &&& 31))]) F (hno _) dJ9_init_2_91 (fJ13_copyOfRange_m (xFG F) l3 (0 : Int32) (l4 <<< ((1 : Int32) &&& 31))) (Or.inl rfl) q477 q136 (Or.inl q475) q476 (xroom hRm (Nat.le_of_ble_eq_true rfl) (Nat.le_of_ble_eq_true rfl)) ⟨by decide, by decide⟩ n_J13_copyOfRange rfl (xcat (Nat.le_of_ble_eq_true rfl)) (fun v91 => ?_)
  refine xr_put (r := (some l0)) (ref := "java/lang/String") F dJ9_init_2_94 xk_5 (by decide) (Or.inl q529) (Or.inl rfl) (Or.inr ⟨rfl, hmn.1, rfl, q529⟩) (xr_rfa _ _) ?_
  exact xr_vret F dJ9_init_2_97
theorem fJ9_init_2_m {l : Launch} {D : xD} {s0 : State} {b0 : Nat} {Γ : Nat → Option Nat} (G : xG l D s0 b0 Γ) (a0 : Nat) (p0 : Option Nat) (p1 : Option Nat) : xMeth l D s0 Γ yJ9_init_2 (Cond.code yJ9_init_2 cJ9_init_2 5 none) (4) (106) [.ref a0, va_rf p0, va_rf p1] xeV (fJ9_init_2 a0 p0 p1) := by
  refine xMeth.of (lv0 := [(0, va_rf (some a0)), (1, va_rf p0), (2, va_rf p1)]) G (by decide +kernel) (Or.inl rfl) (by simp [lg_sl, xrf_cat, xct_i, xct_l, xct_d, xct_r]) (by simp [lv_args, xrf_cat, xct_i, xct_l, xct_d, xct_r, xrf_some]) (fun x F hnL hRm hmn ht e1 e2 e3 e4 => ?_)
  have hno : ∀ pc, xNo x pc := fun pc z hz => by rw [ht.1 rfl] at hz; cases hz
  unfold fJ9_init_2
  refine xr_aload_n 0 (r := (some a0)) F dJ9_init_2_0 rfl ?_
  refine xr_obj F dJ9_init_2_1 q460 q200 (q_objcode) (xroom hRm (Nat.le_of_ble_eq_true rfl) (Nat.le_of_ble_eq_true rfl)) (xcat (Nat.le_of_ble_eq_true rfl)) ?_
  refine xr_aload_n 1 (r := p0) F dJ9_init_2_4 rfl ?_
  refine xr_VR (y := yJ7_getValue) (As := []) (r := p0) F (hno _) dJ9_init_2_5 (fun z => fJ7_getValue__J8_m (xFG F) z) (Or.inl rfl) (ci := 4) (C := RJ8) (T := TJ8) rfl q465 q461 q462 q464 (xroom hRm (Nat.le_of_ble_eq_true rfl) (Nat.le_of_ble_eq_true rfl)) ⟨by decide, by decide⟩ n_J7_getValue rfl (xcat (Nat.le_of_ble_eq_true rfl)) (fun v5 => ?_)
  refine xs_a_n [0, 1] F dJ9_init_2_8 hnL rfl rfl (xk1 rfl rfl (xk1 rfl rfl xk0)) ?_
  refine xr_aload_n 2 (r := p0) F dJ9_init_2_9 rfl ?_
  refine xr_UI (x0 := ⟨"java/lang/AbstractStringBuilder", "length", "()I"⟩) (y := yJ8_length) (As := []) (r := p0) F (hno _) dJ9_init_2_10 (fun z => fJ8_length_m (xFG F) z) rfl (ci := 4) (C := RJ8) (T := TJ8) rfl q471 q466 q470 q469 q468 (Or.inl ⟨_, _, _, q473, q467⟩) (xroom hRm (Nat.le_of_ble_eq_true rfl) (Nat.le_of_ble_eq_true rfl)) ⟨by decide, by decide⟩ n_J8_length rfl (xcat (Nat.le_of_ble_eq_true rfl)) (fun v10 => ?_)
  refine xs_i [0, 1, 2] F dJ9_init_2_13 hnL rfl rfl (xk2 rfl (xrf_cat _) (xk1 rfl rfl (xk1 rfl rfl xk0))) ?_
  refine xr_aload_n 3 (r := p0) F dJ9_init_2_15 rfl ?_
  refine xr_VI (y := yJ7_isLatin1) (As := []) (r := p0) F (hno _) dJ9_init_2_16 (fun z => fJ7_isLatin1__J8_m (xFG F) z) (Or.inl rfl) (ci := 4) (C := RJ8) (T := TJ8) rfl q353 q474 q350 q352 (xroom hRm (Nat.le_of_ble_eq_true rfl) (Nat.le_of_ble_eq_true rfl)) ⟨by decide, by decide⟩ n_J7_isLatin1 rfl (xcat (Nat.le_of_ble_eq_true rfl)) (fun v16 => ?_)
  refine xr_if_eq 41 F dJ9_init_2_19 rfl ?_ ?_
  · refine xr_gsi (k := 1) F dJ9_init_2_41 rfl q388 ?_
    refine xr_if_eq 79 F dJ9_init_2_44 rfl ?_ ?_
    · exact xI.sub [2, 1, 0] rfl (fJ9_init_2_p79_ok F hnL hRm hno hmn a0 v5 v10)
    · refine xr_aload_n 3 (r := p0) F dJ9_init_2_47 rfl ?_
      exact xI.stuck
  · refine xr_aload_n 2 (r := (some a0)) F dJ9_init_2_22 rfl ?_
    refine xr_iconst (0 : Int32) F dJ9_init_2_23 rfl ?_
    refine xr_pN (r := (some a0)) (ref := "java/lang/String") F dJ9_init_2_24 xk_5 (by decide) (Or.inl q530) (Or.inl rfl) (Or.inr ⟨rfl, hmn.1, rfl, q530⟩) ?_
    refine xr_aload_n 2 (r := (some a0)) F dJ9_init_2_27 rfl ?_
    refine xr_aload_n 1 (r := v5) F dJ9_init_2_28 rfl ?_
    refine xr_iconst (0 : Int32) F dJ9_init_2_29 rfl ?_
    refine xr_iload 0 F dJ9_init_2_30 rfl ?_
    refine xr_SR (y := yJ13_copyOfRange) (As := [va_rf v5, .int (0 : Int32), .int v10]) F (hno _) dJ9_init_2_32 (fJ13_copyOfRange_m (xFG F) v5 (0 : Int32) v10) (Or.inl rfl) q477 q136 (Or.inl q475) q476 (xroom hRm (Nat.le_of_ble_eq_true rfl) (Nat.le_of_ble_eq_true rfl)) ⟨by decide, by decide⟩ n_J13_copyOfRange rfl (xcat (Nat.le_of_ble_eq_true rfl)) (fun v32 => ?_)
    refine xr_put (r := (some a0)) (ref := "java/lang/String") F dJ9_init_2_35 xk_5 (by decide) (Or.inl q529) (Or.inl rfl) (Or.inr ⟨rfl, hmn.1, rfl, q529⟩) (xr_rfa _ _) ?_
    refine xr_goto 97 F dJ9_init_2_38 rfl ?_
    exact xr_vret F dJ9_init_2_97
theorem fJ9_init_m {l : Launch} {D : xD} {s0 : State} {b0 : Nat} {Γ : Nat → Option Nat} (G : xG l D s0 b0 Γ) (a0 : Nat) (p0 : Option Nat) : xMeth l D s0 Γ yJ9_init (Cond.code yJ9_init cJ9_init 2 none) (5) (130) [.ref a0, va_rf p0] xeV (fJ9_init a0 p0) := by
  refine xMeth.of (lv0 := [(0, va_rf (some a0)), (1, va_rf p0)]) G (by decide +kernel) (Or.inl rfl) (by simp [lg_sl, xrf_cat, xct_i, xct_l, xct_d, xct_r]) (by simp [lv_args, xrf_cat, xct_i, xct_l, xct_d, xct_r, xrf_some]) (fun x F hnL hRm hmn ht e1 e2 e3 e4 => ?_)
  have hno : ∀ pc, xNo x pc := fun pc z hz => by rw [ht.1 rfl] at hz; cases hz
  unfold fJ9_init
  refine xr_aload_n 0 (r := (some a0)) F dJ9_init_0 rfl ?_
  refine xr_aload_n 1 (r := p0) F dJ9_init_1 rfl ?_
  refine xr_null F dJ9_init_2 ?_
  refine xr_IV (y := yJ9_init_2) (As := [va_rf p0, va_rf none]) F (hno _) dJ9_init_3 (fJ9_init_2_m (xFG F) a0 p0 none) rfl rfl q459 (Or.inl q457) q458 (xroom hRm (Nat.le_of_ble_eq_true rfl) (Nat.le_of_ble_eq_true rfl)) ⟨by decide, by decide⟩ n_J9_init_2 rfl (xcat (Nat.le_of_ble_eq_true rfl)) (fun _ => ?_)
  exact xr_vret F dJ9_init_6
theorem fJ8_toString_m {l : Launch} {D : xD} {s0 : State} {b0 : Nat} {Γ : Nat → Option Nat} (G : xG l D s0 b0 Γ) (a0 : Nat) : xMeth l D s0 Γ yJ8_toString (Cond.code yJ8_toString cJ8_toString 1 (some (.object "java/lang/String"))) (6) (151) [.ref a0] xeR (fJ8_toString a0) := by
  refine xMeth.of (lv0 := [(0, va_rf (some a0))]) G (by decide +kernel) (Or.inl rfl) (Nat.le_of_ble_eq_true rfl) rfl (fun x F hnL hRm hmn ht e1 e2 e3 e4 => ?_)
  have hno : ∀ pc, xNo x pc := fun pc z hz => by rw [ht.1 rfl] at hz; cases hz
  unfold fJ8_toString
  refine xr_new F dJ8_toString_0 xk_5 xdf_5 q452 q453 q132 (fun v0 => ?_)
  refine xr_dup F dJ8_toString_3 (xrf_cat _) ?_
  refine xr_aload_n 0 (r := (some a0)) F dJ8_toString_4 rfl ?_
  refine xr_IV (y := yJ9_init) (As := [va_rf (some a0)]) F (hno _) dJ8_toString_5 (fJ9_init_m (xFG F) v0 (some a0)) rfl rfl q456 (Or.inl q454) q455 (xroom hRm (Nat.le_of_ble_eq_true rfl) (Nat.le_of_ble_eq_true rfl)) ⟨by decide, by decide⟩ n_J9_init rfl (xcat (Nat.le_of_ble_eq_true rfl)) (fun _ => ?_)
  exact xr_aret (v := (some v0)) F dJ8_toString_8 (Or.inl ⟨_, rfl⟩)
theorem fJ7_inflate__J8_m {l : Launch} {D : xD} {s0 : State} {b0 : Nat} {Γ : Nat → Option Nat} (G : xG l D s0 b0 Γ) (a0 : Nat) : xMeth l D s0 Γ yJ7_inflate (Cond.code yJ7_inflate cJ7_inflate 2 none) (2) (32) [.ref a0] xeV (fJ7_inflate__J8 a0) := by
  refine xMeth.of (lv0 := [(0, va_rf (some a0))]) G (by decide +kernel) (Or.inl rfl) (Nat.le_of_ble_eq_true rfl) rfl (fun x F hnL hRm hmn ht e1 e2 e3 e4 => ?_)
  have hno : ∀ pc, xNo x pc := fun pc z hz => by rw [ht.1 rfl] at hz; cases hz
  unfold fJ7_inflate__J8
  refine xr_aload_n 0 (r := (some a0)) F dJ7_inflate_0 rfl ?_
  refine xr_VI (y := yJ7_isLatin1) (As := []) (r := (some a0)) F (hno _) dJ7_inflate_1 (fun z => fJ7_isLatin1__J8_m (xFG F) z) (Or.inl rfl) (ci := 4) (C := RJ8) (T := TJ8) rfl q353 q349 q350 q352 (xroom hRm (Nat.le_of_ble_eq_true rfl) (Nat.le_of_ble_eq_true rfl)) ⟨by decide, by decide⟩ n_J7_isLatin1 rfl (xcat (Nat.le_of_ble_eq_true rfl)) (fun v1 => ?_)
  refine xr_if_ne 8 F dJ7_inflate_4 rfl ?_ ?_
  · exact xr_vret F dJ7_inflate_7
  · refine xr_aload_n 0 (r := (some a0)) F dJ7_inflate_8 rfl ?_
    refine xr_gR (r := (some a0)) (ref := "java/lang/AbstractStringBuilder") F dJ7_inflate_9 (C := RJ8) (T := TJ8) (N := 4) rfl (by decide) (Or.inl q288) (Or.inl rfl) (fun v9 => ?_)
    refine xr_len (r := v9) F dJ7_inflate_12 (fun v12 => ?_)
    exact xI.stuck
theorem fJ11_hugeLength_m {l : Launch} {D : xD} {s0 : State} {b0 : Nat} {Γ : Nat → Option Nat} (G : xG l D s0 b0 Γ) (p0 : Int32) (p1 : Int32) : xMeth l D s0 Γ yJ11_hugeLength (Cond.code yJ11_hugeLength cJ11_hugeLength 3 (some .int)) (1) (12) [.int p0, .int p1] xeI (fJ11_hugeLength p0 p1) := by
  refine xMeth.of (lv0 := [(0, .int p0), (1, .int p1)]) G (by decide +kernel) (Or.inl rfl) (Nat.le_of_ble_eq_true rfl) rfl (fun x F hnL hRm hmn ht e1 e2 e3 e4 => ?_)
  have hno : ∀ pc, xNo x pc := fun pc z hz => by rw [ht.1 rfl] at hz; cases hz
  unfold fJ11_hugeLength
  refine xr_iload_n 0 F dJ11_hugeLength_0 rfl ?_
  refine xr_iload_n 1 F dJ11_hugeLength_1 rfl ?_
  refine xr_iadd F dJ11_hugeLength_2 ?_
  refine xr_letI (fun x2_3 => ?_)
  refine xs_i_n [] F dJ11_hugeLength_3 hnL rfl rfl xk0 ?_
  refine xr_iload_n 0 F dJ11_hugeLength_4 rfl ?_
  refine xr_if_ge 49 F dJ11_hugeLength_5 rfl ?_ ?_
  · refine xr_iload_n 0 F dJ11_hugeLength_49 rfl ?_
    refine xr_ldc F dJ11_hugeLength_50 q328 ?_
    refine xr_icmp_gt 58 F dJ11_hugeLength_52 rfl ?_ ?_
    · refine xr_iload_n 0 F dJ11_hugeLength_58 rfl ?_
      exact xr_iret F dJ11_hugeLength_59
    · refine xr_ldc F dJ11_hugeLength_55 q328 ?_
      exact xr_iret F dJ11_hugeLength_57
  · exact xI.stuck
theorem fJ11_newLength_p21_ok {x : xC} (F : xF x RJ11 cJ11_newLength (some .int)) (hnL : xnL x = 4) (hRm : ∃ dc ds, x.2.2.2.1 = { frames := 2, cells := dc, slots := ds, locals := 34 }) (hno : ∀ pc, xNo x pc) (hmn : xmn x = "newLength" ∧ xmy x yJ11_newLength) (l0 : Int32) (l1 : Int32) : xI x xeI 21 [(0, .int l0), (1, .int l1)] [] (fJ11_newLength_p21 l0 l1) := by
  unfold fJ11_newLength_p21
  refine xr_iload_n 0 F dJ11_newLength_21 rfl ?_
  refine xr_iload_n 1 F dJ11_newLength_22 rfl ?_
  refine xr_SI (y := yJ11_hugeLength) (As := [.int l0, .int l1]) F (hno _) dJ11_newLength_23 (fJ11_hugeLength_m (xFG F) l0 l1) (Or.inl rfl) q331 q134 (Or.inl q329) q330 (xroom hRm (Nat.le_of_ble_eq_true rfl) (Nat.le_of_ble_eq_true rfl)) ⟨by decide, by decide⟩ n_J11_hugeLength rfl (xcat (Nat.le_of_ble_eq_true rfl)) (fun v23 => ?_)
  exact xr_iret F dJ11_newLength_26
theorem fJ11_newLength_m {l : Launch} {D : xD} {s0 : State} {b0 : Nat} {Γ : Nat → Option Nat} (G : xG l D s0 b0 Γ) (p0 : Int32) (p1 : Int32) (p2 : Int32) : xMeth l D s0 Γ yJ11_newLength (Cond.code yJ11_newLength cJ11_newLength 4 (some .int)) (2) (34) [.int p0, .int p1, .int p2] xeI (fJ11_newLength p0 p1 p2) := by
  refine xMeth.of (lv0 := [(0, .int p0), (1, .int p1), (2, .int p2)]) G (by decide +kernel) (Or.inl rfl) (Nat.le_of_ble_eq_true rfl) rfl (fun x F hnL hRm hmn ht e1 e2 e3 e4 => ?_)
  have hno : ∀ pc, xNo x pc := fun pc z hz => by rw [ht.1 rfl] at hz; cases hz
  unfold fJ11_newLength
  refine xr_iload_n 0 F dJ11_newLength_0 rfl ?_
  refine xr_iload_n 1 F dJ11_newLength_1 rfl ?_
  refine xr_iload_n 2 F dJ11_newLength_2 rfl ?_
  refine xr_SI (y := yJ12_max) (As := [.int p1, .int p2]) F (hno _) dJ11_newLength_3 (fJ12_max_m (xFG F) p1 p2) (Or.inl rfl) q327 q135 (Or.inl q325) q326 (xroom hRm (Nat.le_of_ble_eq_true rfl) (Nat.le_of_ble_eq_true rfl)) ⟨by decide, by decide⟩ n_J12_max rfl (xcat (Nat.le_of_ble_eq_true rfl)) (fun v3 => ?_)
  refine xr_iadd F dJ11_newLength_6 ?_
  refine xr_letI (fun x3_7 => ?_)
  refine xs_i_n [0, 1] F dJ11_newLength_7 hnL rfl rfl (xk1 rfl rfl (xk1 rfl rfl xk0)) ?_
  refine xr_iconst (0 : Int32) F dJ11_newLength_8 rfl ?_
  refine xr_iload_n 0 F dJ11_newLength_9 rfl ?_
  refine xr_icmp_ge 21 F dJ11_newLength_10 rfl ?_ ?_
  · exact xI.sub [1, 2] rfl (fJ11_newLength_p21_ok F hnL hRm hno hmn p0 p1)
  · refine xr_iload_n 0 F dJ11_newLength_13 rfl ?_
    refine xr_ldc F dJ11_newLength_14 q328 ?_
    refine xr_icmp_gt 21 F dJ11_newLength_16 rfl ?_ ?_
    · exact xI.sub [1, 2] rfl (fJ11_newLength_p21_ok F hnL hRm hno hmn p0 p1)
    · refine xr_iload_n 0 F dJ11_newLength_19 rfl ?_
      exact xr_iret F dJ11_newLength_20
theorem fJ7_newCapacity__J8_m {l : Launch} {D : xD} {s0 : State} {b0 : Nat} {Γ : Nat → Option Nat} (G : xG l D s0 b0 Γ) (a0 : Nat) (p0 : Int32) : xMeth l D s0 Γ yJ7_newCapacity (Cond.code yJ7_newCapacity cJ7_newCapacity 6 (some .int)) (3) (57) [.ref a0, .int p0] xeI (fJ7_newCapacity__J8 a0 p0) := by
  refine xMeth.of (lv0 := [(0, va_rf (some a0)), (1, .int p0)]) G (by decide +kernel) (Or.inl rfl) (Nat.le_of_ble_eq_true rfl) rfl (fun x F hnL hRm hmn ht e1 e2 e3 e4 => ?_)
  have hno : ∀ pc, xNo x pc := fun pc z hz => by rw [ht.1 rfl] at hz; cases hz
  unfold fJ7_newCapacity__J8
  refine xr_aload_n 0 (r := (some a0)) F dJ7_newCapacity_0 rfl ?_
  refine xr_gR (r := (some a0)) (ref := "java/lang/AbstractStringBuilder") F dJ7_newCapacity_1 (C := RJ8) (T := TJ8) (N := 4) rfl (by decide) (Or.inl q288) (Or.inl rfl) (fun v1 => ?_)
  refine xr_len (r := v1) F dJ7_newCapacity_4 (fun v4 => ?_)
  refine xs_i_n [0, 1] F dJ7_newCapacity_5 hnL rfl rfl (xk1 rfl rfl (xk2 rfl rfl xk0)) ?_
  refine xr_iload_n 2 F dJ7_newCapacity_6 rfl ?_
  refine xr_aload_n 1 (r := (some a0)) F dJ7_newCapacity_7 rfl ?_
  refine xr_gI (r := (some a0)) (ref := "java/lang/AbstractStringBuilder") F dJ7_newCapacity_8 (C := RJ8) (T := TJ8) (N := 4) rfl (by decide) (Or.inl q289) (Or.inl rfl) (fun v8 => ?_)
  refine xr_ishl F dJ7_newCapacity_11 ?_
  refine xr_letI (fun x3_12 => ?_)
  refine xs_i_n [0, 1] F dJ7_newCapacity_12 hnL rfl rfl (xk2 rfl rfl (xk1 rfl rfl xk0)) ?_
  refine xr_iload_n 0 F dJ7_newCapacity_13 rfl ?_
  refine xr_iload_n 1 F dJ7_newCapacity_14 rfl ?_
  refine xr_isub F dJ7_newCapacity_15 ?_
  refine xr_letI (fun x4_16 => ?_)
  refine xs_i [1, 2] F dJ7_newCapacity_16 hnL rfl rfl (xk1 rfl rfl (xk1 rfl rfl xk0)) ?_
  refine xr_iload_n 1 F dJ7_newCapacity_18 rfl ?_
  refine xr_iload 0 F dJ7_newCapacity_19 rfl ?_
  refine xr_iload_n 1 F dJ7_newCapacity_21 rfl ?_
  refine xr_iconst (2 : Int32) F dJ7_newCapacity_22 rfl ?_
  refine xr_aload_n 2 (r := (some a0)) F dJ7_newCapacity_23 rfl ?_
  refine xr_gI (r := (some a0)) (ref := "java/lang/AbstractStringBuilder") F dJ7_newCapacity_24 (C := RJ8) (T := TJ8) (N := 4) rfl (by decide) (Or.inl q289) (Or.inl rfl) (fun v24 => ?_)
  refine xr_ishl F dJ7_newCapacity_27 ?_
  refine xr_iadd F dJ7_newCapacity_28 ?_
  refine xr_SI (y := yJ11_newLength) (As := [.int v4, .int x4_16, .int (v4 + ((2 : Int32) <<< (v24 &&& 31)))]) F (hno _) dJ7_newCapacity_29 (fJ11_newLength_m (xFG F) v4 x4_16 (v4 + ((2 : Int32) <<< (v24 &&& 31)))) (Or.inl rfl) q324 q134 (Or.inl q322) q323 (xroom hRm (Nat.le_of_ble_eq_true rfl) (Nat.le_of_ble_eq_true rfl)) ⟨by decide, by decide⟩ n_J11_newLength rfl (xcat (Nat.le_of_ble_eq_true rfl)) (fun v29 => ?_)
  refine xs_i [2] F dJ7_newCapacity_32 hnL rfl rfl (xk1 rfl rfl xk0) ?_
  refine xr_iload 0 F dJ7_newCapacity_34 rfl ?_
  refine xr_ldc F dJ7_newCapacity_36 q332 ?_
  refine xr_icmp_ne 51 F dJ7_newCapacity_38 rfl ?_ ?_
  · exact xI.stuck
  · refine xr_iload 0 F dJ7_newCapacity_51 rfl ?_
    refine xr_aload_n 1 (r := (some a0)) F dJ7_newCapacity_53 rfl ?_
    refine xr_gI (r := (some a0)) (ref := "java/lang/AbstractStringBuilder") F dJ7_newCapacity_54 (C := RJ8) (T := TJ8) (N := 4) rfl (by decide) (Or.inl q289) (Or.inl rfl) (fun v54 => ?_)
    refine xr_ishr F dJ7_newCapacity_57 ?_
    exact xr_iret F dJ7_newCapacity_58
theorem fJ13_copyOf_m {l : Launch} {D : xD} {s0 : State} {b0 : Nat} {Γ : Nat → Option Nat} (G : xG l D s0 b0 Γ) (p0 : Option Nat) (p1 : Int32) : xMeth l D s0 Γ yJ13_copyOf (Cond.code yJ13_copyOf cJ13_copyOf 3 (some (.array .byte))) (2) (60) [va_rf p0, .int p1] xeR (fJ13_copyOf p0 p1) := by
  refine xMeth.of (lv0 := [(0, va_rf p0), (1, .int p1)]) G (by decide +kernel) (Or.inl rfl) (by simp [lg_sl, xrf_cat, xct_i, xct_l, xct_d, xct_r]) (by simp [lv_args, xrf_cat, xct_i, xct_l, xct_d, xct_r, xrf_some]) (fun x F hnL hRm hmn ht e1 e2 e3 e4 => ?_)
  have hno : ∀ pc, xNo x pc := fun pc z hz => by rw [ht.1 rfl] at hz; cases hz
  unfold fJ13_copyOf
  refine xr_iload_n 1 F dJ13_copyOf_0 rfl ?_
  refine xr_aload_n 0 (r := p0) F dJ13_copyOf_1 rfl ?_
  refine xr_len (r := p0) F dJ13_copyOf_2 (fun v2 => ?_)
  refine xr_icmp_ne 14 F dJ13_copyOf_3 rfl ?_ ?_
  · refine xr_aload_n 0 (r := p0) F dJ13_copyOf_6 rfl ?_
    refine xr_clB (r := p0) F dJ13_copyOf_7 q336 q337 q338 q339 q340 q341 (xroom hRm (Nat.le_of_ble_eq_true rfl) (Nat.le_of_ble_eq_true rfl)) (xcat (Nat.le_of_ble_eq_true rfl)) (fun v7 => ?_)
    refine xr_castA (t := 0) (r := v7) F dJ13_copyOf_10 q342 (fun s9 c9 ty9 h9 g9 => by cases h9; exact g9) ?_
    exact xr_aret (v := v7) F dJ13_copyOf_13 (Or.inr ⟨_, rfl⟩)
  · refine xr_iload_n 1 F dJ13_copyOf_14 rfl ?_
    refine xr_newa F dJ13_copyOf_15 rfl (fun _ _ => rfl) (by decide) q301 (fun v15 => ?_)
    refine xs_a_n [0, 1] F dJ13_copyOf_17 hnL rfl rfl (xk1 rfl rfl (xk2 rfl rfl xk0)) ?_
    refine xr_aload_n 1 (r := p0) F dJ13_copyOf_18 rfl ?_
    refine xr_iconst (0 : Int32) F dJ13_copyOf_19 rfl ?_
    refine xr_aload_n 0 (r := (some v15)) F dJ13_copyOf_20 rfl ?_
    refine xr_iconst (0 : Int32) F dJ13_copyOf_21 rfl ?_
    refine xr_aload_n 1 (r := p0) F dJ13_copyOf_22 rfl ?_
    refine xr_len (r := p0) F dJ13_copyOf_23 (fun v23 => ?_)
    refine xr_iload_n 2 F dJ13_copyOf_24 rfl ?_
    refine xr_SI (y := yJ12_min) (As := [.int v23, .int p1]) F (hno _) dJ13_copyOf_25 (fJ12_min_m (xFG F) v23 p1) (Or.inl rfl) q345 q135 (Or.inl q343) q344 (xroom hRm (Nat.le_of_ble_eq_true rfl) (Nat.le_of_ble_eq_true rfl)) ⟨by decide, by decide⟩ n_J12_min rfl (xcat (Nat.le_of_ble_eq_true rfl)) (fun v25 => ?_)
    refine xr_cpI (t := 0) (ty := .byte) (sr := p0) (dr := (some v15)) F dJ13_copyOf_28 rfl rfl q346 q348 q347 q137 (xroom hRm (Nat.le_of_ble_eq_true rfl) (Nat.le_of_ble_eq_true rfl)) (xcat (Nat.le_of_ble_eq_true rfl)) ?_
    refine xr_aload_n 0 (r := (some v15)) F dJ13_copyOf_31 rfl ?_
    exact xr_aret (v := (some v15)) F dJ13_copyOf_32 (Or.inr ⟨_, rfl⟩)
theorem fJ7_ensureCapacityInternal__J8_m {l : Launch} {D : xD} {s0 : State} {b0 : Nat} {Γ : Nat → Option Nat} (G : xG l D s0 b0 Γ) (a0 : Nat) (p0 : Int32) : xMeth l D s0 Γ yJ7_ensureCapacityInternal (Cond.code yJ7_ensureCapacityInternal cJ7_ensureCapacityInternal 3 none) (4) (82) [.ref a0, .int p0] xeV (fJ7_ensureCapacityInternal__J8 a0 p0) := by
  refine xMeth.of (lv0 := [(0, va_rf (some a0)), (1, .int p0)]) G (by decide +kernel) (Or.inl rfl) (Nat.le_of_ble_eq_true rfl) rfl (fun x F hnL hRm hmn ht e1 e2 e3 e4 => ?_)
  have hno : ∀ pc, xNo x pc := fun pc z hz => by rw [ht.1 rfl] at hz; cases hz
  unfold fJ7_ensureCapacityInternal__J8
  refine xr_aload_n 0 (r := (some a0)) F dJ7_ensureCapacityInternal_0 rfl ?_
  refine xr_gR (r := (some a0)) (ref := "java/lang/AbstractStringBuilder") F dJ7_ensureCapacityInternal_1 (C := RJ8) (T := TJ8) (N := 4) rfl (by decide) (Or.inl q288) (Or.inl rfl) (fun v1 => ?_)
  refine xr_len (r := v1) F dJ7_ensureCapacityInternal_4 (fun v4 => ?_)
  refine xr_aload_n 0 (r := (some a0)) F dJ7_ensureCapacityInternal_5 rfl ?_
  refine xr_gI (r := (some a0)) (ref := "java/lang/AbstractStringBuilder") F dJ7_ensureCapacityInternal_6 (C := RJ8) (T := TJ8) (N := 4) rfl (by decide) (Or.inl q289) (Or.inl rfl) (fun v6 => ?_)
  refine xr_ishr F dJ7_ensureCapacityInternal_9 ?_
  refine xr_letI (fun x2_10 => ?_)
  refine xs_i_n [0, 1] F dJ7_ensureCapacityInternal_10 hnL rfl rfl (xk1 rfl rfl (xk2 rfl rfl xk0)) ?_
  refine xr_iload_n 2 F dJ7_ensureCapacityInternal_11 rfl ?_
  refine xr_iload_n 0 F dJ7_ensureCapacityInternal_12 rfl ?_
  refine xr_isub F dJ7_ensureCapacityInternal_13 ?_
  refine xr_if_le 38 F dJ7_ensureCapacityInternal_14 rfl ?_ ?_
  · exact xr_vret F dJ7_ensureCapacityInternal_38
  · refine xr_aload_n 1 (r := (some a0)) F dJ7_ensureCapacityInternal_17 rfl ?_
    refine xr_aload_n 1 (r := (some a0)) F dJ7_ensureCapacityInternal_18 rfl ?_
    refine xr_gR (r := (some a0)) (ref := "java/lang/AbstractStringBuilder") F dJ7_ensureCapacityInternal_19 (C := RJ8) (T := TJ8) (N := 4) rfl (by decide) (Or.inl q288) (Or.inl rfl) (fun v19 => ?_)
    refine xr_aload_n 1 (r := (some a0)) F dJ7_ensureCapacityInternal_22 rfl ?_
    refine xr_iload_n 2 F dJ7_ensureCapacityInternal_23 rfl ?_
    refine xr_PI (y := yJ7_newCapacity) (y2 := ({ cls := "java/lang/AbstractStringBuilder", name := "isLatin1", desc := "()Z" } : Jvm.MethodName)) (As := [.int p0]) (r := (some a0)) F (hno _) dJ7_ensureCapacityInternal_24 (fun z => fJ7_newCapacity__J8_m (xFG F) z p0) (Or.inl rfl) (ci := 4) (C := RJ8) (T := TJ8) rfl q321 q318 q320 q319 q352 rfl (xroom hRm (Nat.le_of_ble_eq_true rfl) (Nat.le_of_ble_eq_true rfl)) ⟨by decide, by decide⟩ n_J7_newCapacity rfl (xcat (Nat.le_of_ble_eq_true rfl)) (fun v24 => ?_)
    refine xr_aload_n 1 (r := (some a0)) F dJ7_ensureCapacityInternal_27 rfl ?_
    refine xr_gI (r := (some a0)) (ref := "java/lang/AbstractStringBuilder") F dJ7_ensureCapacityInternal_28 (C := RJ8) (T := TJ8) (N := 4) rfl (by decide) (Or.inl q289) (Or.inl rfl) (fun v28 => ?_)
    refine xr_ishl F dJ7_ensureCapacityInternal_31 ?_
    refine xr_SR (y := yJ13_copyOf) (As := [va_rf v19, .int (v24 <<< (v28 &&& 31))]) F (hno _) dJ7_ensureCapacityInternal_32 (fJ13_copyOf_m (xFG F) v19 (v24 <<< (v28 &&& 31))) (Or.inl rfl) q335 q136 (Or.inl q333) q334 (xroom hRm (Nat.le_of_ble_eq_true rfl) (Nat.le_of_ble_eq_true rfl)) ⟨by decide, by decide⟩ n_J13_copyOf rfl (xcat (Nat.le_of_ble_eq_true rfl)) (fun v32 => ?_)
    refine xr_put (r := (some a0)) (ref := "java/lang/AbstractStringBuilder") F dJ7_ensureCapacityInternal_35 xk_4 (by decide) (Or.inl q288) (Or.inl rfl) (Or.inl rfl) (xr_rfa _ _) ?_
    exact xr_vret F dJ7_ensureCapacityInternal_38
theorem fJ15_canEncode_m {l : Launch} {D : xD} {s0 : State} {b0 : Nat} {Γ : Nat → Option Nat} (G : xG l D s0 b0 Γ) (p0 : Int32) : xMeth l D s0 Γ yJ15_canEncode (Cond.code yJ15_canEncode cJ15_canEncode 1 (some .boolean)) (1) (12) [.int p0] xeI (fJ15_canEncode p0) := by
  refine xMeth.of (lv0 := [(0, .int p0)]) G (by decide +kernel) (Or.inl rfl) (Nat.le_of_ble_eq_true rfl) rfl (fun x F hnL hRm hmn ht e1 e2 e3 e4 => ?_)
  have hno : ∀ pc, xNo x pc := fun pc z hz => by rw [ht.1 rfl] at hz; cases hz
  unfold fJ15_canEncode
  refine xr_iload_n 0 F dJ15_canEncode_0 rfl ?_
  refine xr_sipush (255 : Int32) F dJ15_canEncode_1 rfl ?_
  refine xr_icmp_gt 11 F dJ15_canEncode_4 rfl ?_ ?_
  · refine xr_iconst (0 : Int32) F dJ15_canEncode_11 rfl ?_
    exact xr_zret F dJ15_canEncode_12 rfl
  · refine xr_iconst (1 : Int32) F dJ15_canEncode_7 rfl ?_
    refine xr_goto 12 F dJ15_canEncode_8 rfl ?_
    exact xr_zret F dJ15_canEncode_12 rfl
theorem fJ7_append_3__J8_p56_ok {x : xC} (F : xF x RJ7 cJ7_append_3 (some (.object "java/lang/AbstractStringBuilder"))) (hnL : xnL x = 2) (hRm : ∃ dc ds, x.2.2.2.1 = { frames := 5, cells := dc, slots := ds, locals := 104 }) (hno : ∀ pc, xNo x pc) (hmn : xmn x = "append" ∧ xmy x yJ7_append_3) (l0 : Nat) (l1 : Int32) : xI x xeR 56 [(0, va_rf (some l0)), (1, .int l1)] [] (fJ7_append_3__J8_p56 l0 l1) := by
  unfold fJ7_append_3__J8_p56
  refine xr_aload_n 0 (r := (some l0)) F dJ7_append_3_56 rfl ?_
  refine xr_gR (r := (some l0)) (ref := "java/lang/AbstractStringBuilder") F dJ7_append_3_57 (C := RJ8) (T := TJ8) (N := 4) rfl (by decide) (Or.inl q288) (Or.inl rfl) (fun v57 => ?_)
  refine xr_aload_n 0 (r := (some l0)) F dJ7_append_3_60 rfl ?_
  refine xr_dup F dJ7_append_3_61 (xrf_cat _) ?_
  refine xr_gI (r := (some l0)) (ref := "java/lang/AbstractStringBuilder") F dJ7_append_3_62 (C := RJ8) (T := TJ8) (N := 4) rfl (by decide) (Or.inl q291) (Or.inl rfl) (fun v62 => ?_)
  refine xr_dup_x1 F dJ7_append_3_65 rfl (xrf_cat _) ?_
  refine xr_iconst (1 : Int32) F dJ7_append_3_66 rfl ?_
  refine xr_iadd F dJ7_append_3_67 ?_
  refine xr_put (r := (some l0)) (ref := "java/lang/AbstractStringBuilder") F dJ7_append_3_68 xk_4 (by decide) (Or.inl q291) (Or.inl rfl) (Or.inl rfl) ⟨rfl, rfl⟩ ?_
  refine xr_iload_n 1 F dJ7_append_3_71 rfl ?_
  exact xI.stuck
theorem fJ7_append_3__J8_p45_ok {x : xC} (F : xF x RJ7 cJ7_append_3 (some (.object "java/lang/AbstractStringBuilder"))) (hnL : xnL x = 2) (hRm : ∃ dc ds, x.2.2.2.1 = { frames := 5, cells := dc, slots := ds, locals := 104 }) (hno : ∀ pc, xNo x pc) (hmn : xmn x = "append" ∧ xmy x yJ7_append_3) (l0 : Nat) (l1 : Int32) : xI x xeR 45 [(0, va_rf (some l0)), (1, .int l1)] [] (fJ7_append_3__J8_p45 l0 l1) := by
  unfold fJ7_append_3__J8_p45
  refine xr_aload_n 0 (r := (some l0)) F dJ7_append_3_45 rfl ?_
  refine xr_VI (y := yJ7_isLatin1) (As := []) (r := (some l0)) F (hno _) dJ7_append_3_46 (fun z => fJ7_isLatin1__J8_m (xFG F) z) (Or.inl rfl) (ci := 4) (C := RJ8) (T := TJ8) rfl q353 q349 q350 q352 (xroom hRm (Nat.le_of_ble_eq_true rfl) (Nat.le_of_ble_eq_true rfl)) ⟨by decide, by decide⟩ n_J7_isLatin1 rfl (xcat (Nat.le_of_ble_eq_true rfl)) (fun v46 => ?_)
  refine xr_if_eq 56 F dJ7_append_3_49 rfl ?_ ?_
  · exact xI.sub [0, 1] rfl (fJ7_append_3__J8_p56_ok F hnL hRm hno hmn l0 l1)
  · refine xr_aload_n 0 (r := (some l0)) F dJ7_append_3_52 rfl ?_
    refine xr_PV (y := yJ7_inflate) (y2 := ({ cls := "java/lang/AbstractStringBuilder", name := "isLatin1", desc := "()Z" } : Jvm.MethodName)) (As := []) (r := (some l0)) F (hno _) dJ7_append_3_53 (fun z => fJ7_inflate__J8_m (xFG F) z) (Or.inl rfl) (ci := 4) (C := RJ8) (T := TJ8) rfl q401 q398 q400 q399 q352 rfl (xroom hRm (Nat.le_of_ble_eq_true rfl) (Nat.le_of_ble_eq_true rfl)) ⟨by decide, by decide⟩ n_J7_inflate rfl (xcat (Nat.le_of_ble_eq_true rfl)) (fun _ => ?_)
    exact xI.sub [0, 1] rfl (fJ7_append_3__J8_p56_ok F hnL hRm hno hmn l0 l1)
theorem fJ7_append_3__J8_m {l : Launch} {D : xD} {s0 : State} {b0 : Nat} {Γ : Nat → Option Nat} (G : xG l D s0 b0 Γ) (a0 : Nat) (p0 : Int32) : xMeth l D s0 Γ yJ7_append_3 (Cond.code yJ7_append_3 cJ7_append_3 2 (some (.object "java/lang/AbstractStringBuilder"))) (5) (104) [.ref a0, .int p0] xeR (fJ7_append_3__J8 a0 p0) := by
  refine xMeth.of (lv0 := [(0, va_rf (some a0)), (1, .int p0)]) G (by decide +kernel) (Or.inl rfl) (Nat.le_of_ble_eq_true rfl) rfl (fun x F hnL hRm hmn ht e1 e2 e3 e4 => ?_)
  have hno : ∀ pc, xNo x pc := fun pc z hz => by rw [ht.1 rfl] at hz; cases hz
  unfold fJ7_append_3__J8
  refine xr_aload_n 0 (r := (some a0)) F dJ7_append_3_0 rfl ?_
  refine xr_aload_n 0 (r := (some a0)) F dJ7_append_3_1 rfl ?_
  refine xr_gI (r := (some a0)) (ref := "java/lang/AbstractStringBuilder") F dJ7_append_3_2 (C := RJ8) (T := TJ8) (N := 4) rfl (by decide) (Or.inl q291) (Or.inl rfl) (fun v2 => ?_)
  refine xr_iconst (1 : Int32) F dJ7_append_3_5 rfl ?_
  refine xr_iadd F dJ7_append_3_6 ?_
  refine xr_PV (y := yJ7_ensureCapacityInternal) (y2 := ({ cls := "java/lang/AbstractStringBuilder", name := "isLatin1", desc := "()Z" } : Jvm.MethodName)) (As := [.int (v2 + (1 : Int32))]) (r := (some a0)) F (hno _) dJ7_append_3_7 (fun z => fJ7_ensureCapacityInternal__J8_m (xFG F) z (v2 + (1 : Int32))) (Or.inl rfl) (ci := 4) (C := RJ8) (T := TJ8) rfl q317 q314 q316 q315 q352 rfl (xroom hRm (Nat.le_of_ble_eq_true rfl) (Nat.le_of_ble_eq_true rfl)) ⟨by decide, by decide⟩ n_J7_ensureCapacityInternal rfl (xcat (Nat.le_of_ble_eq_true rfl)) (fun _ => ?_)
  refine xr_aload_n 0 (r := (some a0)) F dJ7_append_3_10 rfl ?_
  refine xr_VI (y := yJ7_isLatin1) (As := []) (r := (some a0)) F (hno _) dJ7_append_3_11 (fun z => fJ7_isLatin1__J8_m (xFG F) z) (Or.inl rfl) (ci := 4) (C := RJ8) (T := TJ8) rfl q353 q349 q350 q352 (xroom hRm (Nat.le_of_ble_eq_true rfl) (Nat.le_of_ble_eq_true rfl)) ⟨by decide, by decide⟩ n_J7_isLatin1 rfl (xcat (Nat.le_of_ble_eq_true rfl)) (fun v11 => ?_)
  refine xr_if_eq 45 F dJ7_append_3_14 rfl ?_ ?_
  · exact xI.sub [0, 1] rfl (fJ7_append_3__J8_p45_ok F hnL hRm hno hmn a0 p0)
  · refine xr_iload_n 1 F dJ7_append_3_17 rfl ?_
    refine xr_SI (y := yJ15_canEncode) (As := [.int p0]) F (hno _) dJ7_append_3_18 (fJ15_canEncode_m (xFG F) p0) (Or.inl rfl) q670 q139 (Or.inl q668) q669 (xroom hRm (Nat.le_of_ble_eq_true rfl) (Nat.le_of_ble_eq_true rfl)) ⟨by decide, by decide⟩ n_J15_canEncode rfl (xcat (Nat.le_of_ble_eq_true rfl)) (fun v18 => ?_)
    refine xr_if_eq 45 F dJ7_append_3_21 rfl ?_ ?_
    · exact xI.sub [0, 1] rfl (fJ7_append_3__J8_p45_ok F hnL hRm hno hmn a0 p0)
    · refine xr_aload_n 0 (r := (some a0)) F dJ7_append_3_24 rfl ?_
      refine xr_gR (r := (some a0)) (ref := "java/lang/AbstractStringBuilder") F dJ7_append_3_25 (C := RJ8) (T := TJ8) (N := 4) rfl (by decide) (Or.inl q288) (Or.inl rfl) (fun v25 => ?_)
      refine xr_aload_n 0 (r := (some a0)) F dJ7_append_3_28 rfl ?_
      refine xr_dup F dJ7_append_3_29 (xrf_cat _) ?_
      refine xr_gI (r := (some a0)) (ref := "java/lang/AbstractStringBuilder") F dJ7_append_3_30 (C := RJ8) (T := TJ8) (N := 4) rfl (by decide) (Or.inl q291) (Or.inl rfl) (fun v30 => ?_)
      refine xr_dup_x1 F dJ7_append_3_33 rfl (xrf_cat _) ?_
      refine xr_iconst (1 : Int32) F dJ7_append_3_34 rfl ?_
      refine xr_iadd F dJ7_append_3_35 ?_
      refine xr_put (r := (some a0)) (ref := "java/lang/AbstractStringBuilder") F dJ7_append_3_36 xk_4 (by decide) (Or.inl q291) (Or.inl rfl) (Or.inl rfl) ⟨rfl, rfl⟩ ?_
      refine xr_iload_n 1 F dJ7_append_3_39 rfl ?_
      refine xr_i2b F dJ7_append_3_40 ?_
      refine xr_bast (r := v25) F dJ7_append_3_41 ?_
      refine xr_goto 75 F dJ7_append_3_42 rfl ?_
      refine xr_aload_n 0 (r := (some a0)) F dJ7_append_3_75 rfl ?_
      exact xr_aret (v := (some a0)) F dJ7_append_3_76 (Or.inl ⟨_, rfl⟩)
theorem fJ8_append_3_m {l : Launch} {D : xD} {s0 : State} {b0 : Nat} {Γ : Nat → Option Nat} (G : xG l D s0 b0 Γ) (a0 : Nat) (p0 : Int32) : xMeth l D s0 Γ yJ8_append_3 (Cond.code yJ8_append_3 cJ8_append_3 2 (some (.object "java/lang/StringBuilder"))) (6) (125) [.ref a0, .int p0] xeR (fJ8_append_3 a0 p0) := by
  refine xMeth.of (lv0 := [(0, va_rf (some a0)), (1, .int p0)]) G (by decide +kernel) (Or.inl rfl) (Nat.le_of_ble_eq_true rfl) rfl (fun x F hnL hRm hmn ht e1 e2 e3 e4 => ?_)
  have hno : ∀ pc, xNo x pc := fun pc z hz => by rw [ht.1 rfl] at hz; cases hz
  unfold fJ8_append_3
  refine xr_aload_n 0 (r := (some a0)) F dJ8_append_3_0 rfl ?_
  refine xr_iload_n 1 F dJ8_append_3_1 rfl ?_
  refine xr_SUR (y := yJ7_append_3) (As := [.int p0]) (r := some a0) F (hno _) dJ8_append_3_2 (fun z => fJ7_append_3__J8_m (xFG F) z p0) rfl (ci := 4) (C := RJ8) (T := TJ8) rfl (by decide) q667 q665 q666 q3988 q300 (xroom hRm (Nat.le_of_ble_eq_true rfl) (Nat.le_of_ble_eq_true rfl)) n_J7_append_3 rfl (xcat (Nat.le_of_ble_eq_true rfl)) (fun v2 => ?_)
  refine xr_pop F dJ8_append_3_5 (xrf_cat _) ?_
  refine xr_aload_n 0 (r := (some a0)) F dJ8_append_3_6 rfl ?_
  exact xr_aret (v := (some a0)) F dJ8_append_3_7 (Or.inl ⟨_, rfl⟩)
theorem fJ7_init__J8_m {l : Launch} {D : xD} {s0 : State} {b0 : Nat} {Γ : Nat → Option Nat} (G : xG l D s0 b0 Γ) (a0 : Nat) (p0 : Int32) : xMeth l D s0 Γ yJ7_init (Cond.code yJ7_init cJ7_init 2 none) (1) (20) [.ref a0, .int p0] xeV (fJ7_init__J8 a0 p0) := by
  refine xMeth.of (lv0 := [(0, va_rf (some a0)), (1, .int p0)]) G (by decide +kernel) (Or.inl rfl) (Nat.le_of_ble_eq_true rfl) rfl (fun x F hnL hRm hmn ht e1 e2 e3 e4 => ?_)
  have hno : ∀ pc, xNo x pc := fun pc z hz => by rw [ht.1 rfl] at hz; cases hz
  unfold fJ7_init__J8
  refine xr_aload_n 0 (r := (some a0)) F dJ7_init_0 rfl ?_
  refine xr_obj F dJ7_init_1 q278 q200 (q_objcode) (xroom hRm (Nat.le_of_ble_eq_true rfl) (Nat.le_of_ble_eq_true rfl)) (xcat (Nat.le_of_ble_eq_true rfl)) ?_
  refine xr_gsi (k := 1) F dJ7_init_4 rfl q279 ?_
  refine xr_if_eq 25 F dJ7_init_7 rfl ?_ ?_
  · refine xr_aload_n 0 (r := (some a0)) F dJ7_init_25 rfl ?_
    refine xr_iload_n 1 F dJ7_init_26 rfl ?_
    exact xI.stuck
  · refine xr_aload_n 0 (r := (some a0)) F dJ7_init_10 rfl ?_
    refine xr_iload_n 1 F dJ7_init_11 rfl ?_
    refine xr_newa F dJ7_init_12 rfl (fun _ _ => rfl) (by decide) q301 (fun v12 => ?_)
    refine xr_put (r := (some a0)) (ref := "java/lang/AbstractStringBuilder") F dJ7_init_14 xk_4 (by decide) (Or.inl q288) (Or.inl rfl) (Or.inl rfl) (xr_rfa _ _) ?_
    refine xr_aload_n 0 (r := (some a0)) F dJ7_init_17 rfl ?_
    refine xr_iconst (0 : Int32) F dJ7_init_18 rfl ?_
    refine xr_pN (r := (some a0)) (ref := "java/lang/AbstractStringBuilder") F dJ7_init_19 xk_4 (by decide) (Or.inl q289) (Or.inl rfl) (Or.inl rfl) ?_
    refine xr_goto 38 F dJ7_init_22 rfl ?_
    exact xr_vret F dJ7_init_38
theorem fJ8_init_m {l : Launch} {D : xD} {s0 : State} {b0 : Nat} {Γ : Nat → Option Nat} (G : xG l D s0 b0 Γ) (a0 : Nat) : xMeth l D s0 Γ yJ8_init (Cond.code yJ8_init cJ8_init 1 none) (2) (41) [.ref a0] xeV (fJ8_init a0) := by
  refine xMeth.of (lv0 := [(0, va_rf (some a0))]) G (by decide +kernel) (Or.inl rfl) (Nat.le_of_ble_eq_true rfl) rfl (fun x F hnL hRm hmn ht e1 e2 e3 e4 => ?_)
  have hno : ∀ pc, xNo x pc := fun pc z hz => by rw [ht.1 rfl] at hz; cases hz
  unfold fJ8_init
  refine xr_aload_n 0 (r := (some a0)) F dJ8_init_0 rfl ?_
  refine xr_bipush (16 : Int32) F dJ8_init_1 rfl ?_
  refine xr_IV (y := yJ7_init) (As := [.int (16 : Int32)]) F (hno _) dJ8_init_3 (fJ7_init__J8_m (xFG F) a0 (16 : Int32)) rfl rfl q277 (Or.inl q275) q276 (xroom hRm (Nat.le_of_ble_eq_true rfl) (Nat.le_of_ble_eq_true rfl)) ⟨by decide, by decide⟩ n_J7_init rfl (xcat (Nat.le_of_ble_eq_true rfl)) (fun _ => ?_)
  exact xr_vret F dJ8_init_6
theorem fX4_word_p18_ok {x : xC} (F : xF x RX4 cX4_word (some (.object "java/lang/String"))) (hnL : xnL x = 3) (hRm : ∃ dc ds, x.2.2.2.1 = { frames := 7, cells := dc, slots := ds, locals := 171 }) (hno : ∀ pc, xNo x pc) (hmn : xmn x = "word" ∧ xmy x yX4_word) : ∀ (n : Nat) (l0 : Nat) (l1 : Nat) (l2 : Int32), xI x xeR 18 [(0, va_rf (some l0)), (1, va_rf (some l1)), (2, .int l2)] [] (fX4_word_p18 n l0 l1 l2) := by
  intro n
  induction n with
  | zero => intro l0 l1 l2; exact xI.stuck
  | succ n ih =>
    intro l0 l1 l2
    unfold fX4_word_p18
    refine xr_aload_n 0 (r := (some l0)) F dX4_word_18 rfl ?_
    refine xr_iload_n 2 F dX4_word_19 rfl ?_
    refine xr_VI (y := yX4_byteAt) (As := [.int l2]) (r := (some l0)) F (hno _) dX4_word_20 (fun z => fX4_byteAt_m (xFG F) z l2) (Or.inl rfl) (ci := 17) (C := RX4) (T := TX4) rfl q1782 q1779 q1781 qs15 (xroom hRm (Nat.le_of_ble_eq_true rfl) (Nat.le_of_ble_eq_true rfl)) ⟨by decide, by decide⟩ n_X4_byteAt rfl (xcat (Nat.le_of_ble_eq_true rfl)) (fun v20 => ?_)
    refine xr_bipush (97 : Int32) F dX4_word_23 rfl ?_
    refine xr_bipush (122 : Int32) F dX4_word_25 rfl ?_
    refine xr_SI (y := yX1_inRange) (As := [.int v20, .int (97 : Int32), .int (122 : Int32)]) F (hno _) dX4_word_27 (fX1_inRange_m (xFG F) v20 (97 : Int32) (122 : Int32)) (Or.inl rfl) q646 q121 (Or.inr ⟨_, q1793⟩) q645 (xroom hRm (Nat.le_of_ble_eq_true rfl) (Nat.le_of_ble_eq_true rfl)) ⟨by decide, by decide⟩ n_X1_inRange rfl (xcat (Nat.le_of_ble_eq_true rfl)) (fun v27 => ?_)
    refine xr_if_eq 50 F dX4_word_30 rfl ?_ ?_
    · refine xr_aload_n 1 (r := (some l1)) F dX4_word_50 rfl ?_
      refine xr_VR (y := yJ8_toString) (As := []) (r := (some l1)) F (hno _) dX4_word_51 (fun z => fJ8_toString_m (xFG F) z) (Or.inl rfl) (ci := 4) (C := RJ8) (T := TJ8) rfl q451 q1795 q449 q450 (xroom hRm (Nat.le_of_ble_eq_true rfl) (Nat.le_of_ble_eq_true rfl)) ⟨by decide, by decide⟩ n_J8_toString rfl (xcat (Nat.le_of_ble_eq_true rfl)) (fun v51 => ?_)
      exact xr_aret (v := v51) F dX4_word_54 (Or.inl ⟨_, rfl⟩)
    · refine xr_aload_n 1 (r := (some l1)) F dX4_word_33 rfl ?_
      refine xr_aload_n 0 (r := (some l0)) F dX4_word_34 rfl ?_
      refine xr_iload_n 2 F dX4_word_35 rfl ?_
      refine xr_VI (y := yX4_byteAt) (As := [.int l2]) (r := (some l0)) F (hno _) dX4_word_36 (fun z => fX4_byteAt_m (xFG F) z l2) (Or.inl rfl) (ci := 17) (C := RX4) (T := TX4) rfl q1782 q1779 q1781 qs15 (xroom hRm (Nat.le_of_ble_eq_true rfl) (Nat.le_of_ble_eq_true rfl)) ⟨by decide, by decide⟩ n_X4_byteAt rfl (xcat (Nat.le_of_ble_eq_true rfl)) (fun v36 => ?_)
      refine xr_i2c F dX4_word_39 ?_
      refine xr_VR (y := yJ8_append_3) (As := [.int ((v36.toUInt32 % 65536).toInt32)]) (r := (some l1)) F (hno _) dX4_word_40 (fun z => fJ8_append_3_m (xFG F) z ((v36.toUInt32 % 65536).toInt32)) (Or.inl rfl) (ci := 4) (C := RJ8) (T := TJ8) rfl q664 q1794 q662 q663 (xroom hRm (Nat.le_of_ble_eq_true rfl) (Nat.le_of_ble_eq_true rfl)) ⟨by decide, by decide⟩ n_J8_append_3 rfl (xcat (Nat.le_of_ble_eq_true rfl)) (fun v40 => ?_)
      refine xr_pop F dX4_word_43 (xrf_cat _) ?_
      refine xs_inc [2, 0, 1] F dX4_word_44 rfl hnL rfl rfl (xk1 rfl rfl (xk2 rfl (xrf_cat _) xk0)) (fun x2_44 => ?_)
      refine xr_goto 18 F dX4_word_47 rfl ?_
      exact xI.sub [1, 2, 0] rfl (ih l0 l1 x2_44)
theorem fX4_word_m {l : Launch} {D : xD} {s0 : State} {b0 : Nat} {Γ : Nat → Option Nat} (G : xG l D s0 b0 Γ) (a0 : Nat) : xMeth l D s0 Γ yX4_word (Cond.code yX4_word cX4_word 3 (some (.object "java/lang/String"))) (7) (171) [.ref a0] xeR (fX4_word a0) := by
  refine xMeth.of (lv0 := [(0, va_rf (some a0))]) G (by decide +kernel) (Or.inl rfl) (Nat.le_of_ble_eq_true rfl) rfl (fun x F hnL hRm hmn ht e1 e2 e3 e4 => ?_)
  have hno : ∀ pc, xNo x pc := fun pc z hz => by rw [ht.1 rfl] at hz; cases hz
  unfold fX4_word
  refine xr_aload_n 0 (r := (some a0)) F dX4_word_0 rfl ?_
  refine xr_VI (y := yX4_peek) (As := []) (r := (some a0)) F (hno _) dX4_word_1 (fun z => fX4_peek_m (xFG F) z) (Or.inl rfl) (ci := 17) (C := RX4) (T := TX4) rfl q1778 q1775 q1777 qs14 (xroom hRm (Nat.le_of_ble_eq_true rfl) (Nat.le_of_ble_eq_true rfl)) ⟨by decide, by decide⟩ n_X4_peek rfl (xcat (Nat.le_of_ble_eq_true rfl)) (fun v1 => ?_)
  refine xr_pop F dX4_word_4 rfl ?_
  refine xr_new F dX4_word_5 xk_4 xdf_4 q1791 q271 q131 (fun v5 => ?_)
  refine xr_dup F dX4_word_8 (xrf_cat _) ?_
  refine xr_IV (y := yJ8_init) (As := []) F (hno _) dX4_word_9 (fJ8_init_m (xFG F) v5) rfl rfl q274 (Or.inl q1792) q273 (xroom hRm (Nat.le_of_ble_eq_true rfl) (Nat.le_of_ble_eq_true rfl)) ⟨by decide, by decide⟩ n_J8_init rfl (xcat (Nat.le_of_ble_eq_true rfl)) (fun _ => ?_)
  refine xs_a_n [0] F dX4_word_12 hnL rfl rfl (xk2 rfl (xrf_cat _) xk0) ?_
  refine xr_aload_n 1 (r := (some a0)) F dX4_word_13 rfl ?_
  refine xr_gI (r := (some a0)) (ref := "ReserveLedger$Parser") F dX4_word_14 (C := RX4) (T := TX4) (N := 5) rfl (by decide) (Or.inl q1756) (Or.inl rfl) (fun v14 => ?_)
  refine xs_i_n [0, 1] F dX4_word_17 hnL rfl rfl (xk2 rfl (xrf_cat _) (xk1 rfl rfl xk0)) ?_
  exact xI.sub [2, 1, 0] rfl (fX4_word_p18_ok F hnL hRm hno hmn xFU a0 v5 v14)
theorem fJ11_signedHashCode_p8_ok {x : xC} (F : xF x RJ11 cJ11_signedHashCode (some .int)) (hnL : xnL x = 6) (hRm : ∃ dc ds, x.2.2.2.1 = { frames := 1, cells := dc, slots := ds, locals := 12 }) (hno : ∀ pc, xNo x pc) (hmn : xmn x = "signedHashCode" ∧ xmy x yJ11_signedHashCode) : ∀ (n : Nat) (l0 : Int32) (l1 : Option Nat) (l4 : Int32) (l5 : Int32), xI x xeI 8 [(0, .int l0), (1, va_rf l1), (4, .int l4), (5, .int l5)] [] (fJ11_signedHashCode_p8 n l0 l1 l4 l5) := by
  intro n
  induction n with
  | zero => intro l0 l1 l4 l5; exact xI.stuck
  | succ n ih =>
    intro l0 l1 l4 l5
    unfold fJ11_signedHashCode_p8
    refine xr_iload 3 F dJ11_signedHashCode_8 rfl ?_
    refine xr_iload 2 F dJ11_signedHashCode_10 rfl ?_
    refine xr_icmp_ge 35 F dJ11_signedHashCode_12 rfl ?_ ?_
    · refine xr_iload_n 0 F dJ11_signedHashCode_35 rfl ?_
      exact xr_iret F dJ11_signedHashCode_36
    · refine xr_bipush (31 : Int32) F dJ11_signedHashCode_15 rfl ?_
      refine xr_iload_n 0 F dJ11_signedHashCode_17 rfl ?_
      refine xr_imul F dJ11_signedHashCode_18 ?_
      refine xr_aload_n 1 (r := l1) F dJ11_signedHashCode_19 rfl ?_
      refine xr_iload 3 F dJ11_signedHashCode_20 rfl ?_
      refine xr_bald (r := l1) F dJ11_signedHashCode_22 (fun v22 => ?_)
      refine xr_sipush (255 : Int32) F dJ11_signedHashCode_23 rfl ?_
      refine xr_iand F dJ11_signedHashCode_26 ?_
      refine xr_iadd F dJ11_signedHashCode_27 ?_
      refine xr_letI (fun x0_28 => ?_)
      refine xs_i_n [1, 2, 3] F dJ11_signedHashCode_28 hnL rfl rfl (xk1 rfl rfl (xk1 rfl rfl (xk1 rfl rfl xk0))) ?_
      refine xs_inc [3, 0, 1, 2] F dJ11_signedHashCode_29 rfl hnL rfl rfl (xk1 rfl rfl (xk1 rfl rfl (xk2 rfl rfl xk0))) (fun x5_29 => ?_)
      refine xr_goto 8 F dJ11_signedHashCode_32 rfl ?_
      exact xI.sub [1, 2, 3, 0] rfl (ih x0_28 l1 l4 x5_29)
theorem fJ11_signedHashCode_m {l : Launch} {D : xD} {s0 : State} {b0 : Nat} {Γ : Nat → Option Nat} (G : xG l D s0 b0 Γ) (p0 : Int32) (p1 : Option Nat) (p2 : Int32) (p3 : Int32) : xMeth l D s0 Γ yJ11_signedHashCode (Cond.code yJ11_signedHashCode cJ11_signedHashCode 6 (some .int)) (1) (12) [.int p0, va_rf p1, .int p2, .int p3] xeI (fJ11_signedHashCode p0 p1 p2 p3) := by
  refine xMeth.of (lv0 := [(0, .int p0), (1, va_rf p1), (2, .int p2), (3, .int p3)]) G (by decide +kernel) (Or.inl rfl) (by simp [lg_sl, xrf_cat, xct_i, xct_l, xct_d, xct_r]) (by simp [lv_args, xrf_cat, xct_i, xct_l, xct_d, xct_r, xrf_some]) (fun x F hnL hRm hmn ht e1 e2 e3 e4 => ?_)
  have hno : ∀ pc, xNo x pc := fun pc z hz => by rw [ht.1 rfl] at hz; cases hz
  unfold fJ11_signedHashCode
  refine xr_iload_n 2 F dJ11_signedHashCode_0 rfl ?_
  refine xr_iload_n 3 F dJ11_signedHashCode_1 rfl ?_
  refine xr_iadd F dJ11_signedHashCode_2 ?_
  refine xr_letI (fun x4_3 => ?_)
  refine xs_i [0, 1, 2] F dJ11_signedHashCode_3 hnL rfl rfl (xk1 rfl rfl (xk1 rfl rfl (xk1 rfl rfl xk0))) ?_
  refine xr_iload_n 3 F dJ11_signedHashCode_5 rfl ?_
  refine xs_i [0, 1, 2] F dJ11_signedHashCode_6 hnL rfl rfl (xk2 rfl rfl (xk1 rfl rfl (xk1 rfl rfl xk0))) ?_
  exact xI.sub [2, 3, 1, 0] rfl (fJ11_signedHashCode_p8_ok F hnL hRm hno hmn xFU p0 p1 x4_3 p2)
theorem fJ11_hashCode_2_p8_ok {x : xC} (F : xF x RJ11 cJ11_hashCode_2 (some .int)) (hnL : xnL x = 6) (hRm : ∃ dc ds, x.2.2.2.1 = { frames := 1, cells := dc, slots := ds, locals := 12 }) (hno : ∀ pc, xNo x pc) (hmn : xmn x = "hashCode" ∧ xmy x yJ11_hashCode_2) : ∀ (n : Nat) (l0 : Int32) (l1 : Option Nat) (l4 : Int32) (l5 : Int32), xI x xeI 8 [(0, .int l0), (1, va_rf l1), (4, .int l4), (5, .int l5)] [] (fJ11_hashCode_2_p8 n l0 l1 l4 l5) := by
  intro n
  induction n with
  | zero => intro l0 l1 l4 l5; exact xI.stuck
  | succ n ih =>
    intro l0 l1 l4 l5
    unfold fJ11_hashCode_2_p8
    refine xr_iload 3 F dJ11_hashCode_2_8 rfl ?_
    refine xr_iload 2 F dJ11_hashCode_2_10 rfl ?_
    refine xr_icmp_ge 31 F dJ11_hashCode_2_12 rfl ?_ ?_
    · refine xr_iload_n 0 F dJ11_hashCode_2_31 rfl ?_
      exact xr_iret F dJ11_hashCode_2_32
    · refine xr_bipush (31 : Int32) F dJ11_hashCode_2_15 rfl ?_
      refine xr_iload_n 0 F dJ11_hashCode_2_17 rfl ?_
      refine xr_imul F dJ11_hashCode_2_18 ?_
      refine xr_aload_n 1 (r := l1) F dJ11_hashCode_2_19 rfl ?_
      refine xr_iload 3 F dJ11_hashCode_2_20 rfl ?_
      refine xr_bald (r := l1) F dJ11_hashCode_2_22 (fun v22 => ?_)
      refine xr_iadd F dJ11_hashCode_2_23 ?_
      refine xr_letI (fun x0_24 => ?_)
      refine xs_i_n [1, 2, 3] F dJ11_hashCode_2_24 hnL rfl rfl (xk1 rfl rfl (xk1 rfl rfl (xk1 rfl rfl xk0))) ?_
      refine xs_inc [3, 0, 1, 2] F dJ11_hashCode_2_25 rfl hnL rfl rfl (xk1 rfl rfl (xk1 rfl rfl (xk2 rfl rfl xk0))) (fun x5_25 => ?_)
      refine xr_goto 8 F dJ11_hashCode_2_28 rfl ?_
      exact xI.sub [1, 2, 3, 0] rfl (ih x0_24 l1 l4 x5_25)
theorem fJ11_hashCode_2_m {l : Launch} {D : xD} {s0 : State} {b0 : Nat} {Γ : Nat → Option Nat} (G : xG l D s0 b0 Γ) (p0 : Int32) (p1 : Option Nat) (p2 : Int32) (p3 : Int32) : xMeth l D s0 Γ yJ11_hashCode_2 (Cond.code yJ11_hashCode_2 cJ11_hashCode_2 6 (some .int)) (1) (12) [.int p0, va_rf p1, .int p2, .int p3] xeI (fJ11_hashCode_2 p0 p1 p2 p3) := by
  refine xMeth.of (lv0 := [(0, .int p0), (1, va_rf p1), (2, .int p2), (3, .int p3)]) G (by decide +kernel) (Or.inl rfl) (by simp [lg_sl, xrf_cat, xct_i, xct_l, xct_d, xct_r]) (by simp [lv_args, xrf_cat, xct_i, xct_l, xct_d, xct_r, xrf_some]) (fun x F hnL hRm hmn ht e1 e2 e3 e4 => ?_)
  have hno : ∀ pc, xNo x pc := fun pc z hz => by rw [ht.1 rfl] at hz; cases hz
  unfold fJ11_hashCode_2
  refine xr_iload_n 2 F dJ11_hashCode_2_0 rfl ?_
  refine xr_iload_n 3 F dJ11_hashCode_2_1 rfl ?_
  refine xr_iadd F dJ11_hashCode_2_2 ?_
  refine xr_letI (fun x4_3 => ?_)
  refine xs_i [0, 1, 2] F dJ11_hashCode_2_3 hnL rfl rfl (xk1 rfl rfl (xk1 rfl rfl (xk1 rfl rfl xk0))) ?_
  refine xr_iload_n 3 F dJ11_hashCode_2_5 rfl ?_
  refine xs_i [0, 1, 2] F dJ11_hashCode_2_6 hnL rfl rfl (xk2 rfl rfl (xk1 rfl rfl (xk1 rfl rfl xk0))) ?_
  exact xI.sub [2, 3, 1, 0] rfl (fJ11_hashCode_2_p8_ok F hnL hRm hno hmn xFU p0 p1 x4_3 p2)
theorem fJ11_hashCode_4_p8_ok {x : xC} (F : xF x RJ11 cJ11_hashCode_4 (some .int)) (hnL : xnL x = 6) (hRm : ∃ dc ds, x.2.2.2.1 = { frames := 1, cells := dc, slots := ds, locals := 12 }) (hno : ∀ pc, xNo x pc) (hmn : xmn x = "hashCode" ∧ xmy x yJ11_hashCode_4) : ∀ (n : Nat) (l0 : Int32) (l1 : Option Nat) (l4 : Int32) (l5 : Int32), xI x xeI 8 [(0, .int l0), (1, va_rf l1), (4, .int l4), (5, .int l5)] [] (fJ11_hashCode_4_p8 n l0 l1 l4 l5) := by
  intro n
  induction n with
  | zero => intro l0 l1 l4 l5; exact xI.stuck
  | succ n ih =>
    intro l0 l1 l4 l5
    unfold fJ11_hashCode_4_p8
    refine xr_iload 3 F dJ11_hashCode_4_8 rfl ?_
    refine xr_iload 2 F dJ11_hashCode_4_10 rfl ?_
    refine xr_icmp_ge 31 F dJ11_hashCode_4_12 rfl ?_ ?_
    · refine xr_iload_n 0 F dJ11_hashCode_4_31 rfl ?_
      exact xr_iret F dJ11_hashCode_4_32
    · refine xr_bipush (31 : Int32) F dJ11_hashCode_4_15 rfl ?_
      refine xr_iload_n 0 F dJ11_hashCode_4_17 rfl ?_
      refine xr_imul F dJ11_hashCode_4_18 ?_
      refine xr_aload_n 1 (r := l1) F dJ11_hashCode_4_19 rfl ?_
      refine xr_iload 3 F dJ11_hashCode_4_20 rfl ?_
      refine xr_iald (r := l1) F dJ11_hashCode_4_22 (fun v22 => ?_)
      refine xr_iadd F dJ11_hashCode_4_23 ?_
      refine xr_letI (fun x0_24 => ?_)
      refine xs_i_n [1, 2, 3] F dJ11_hashCode_4_24 hnL rfl rfl (xk1 rfl rfl (xk1 rfl rfl (xk1 rfl rfl xk0))) ?_
      refine xs_inc [3, 0, 1, 2] F dJ11_hashCode_4_25 rfl hnL rfl rfl (xk1 rfl rfl (xk1 rfl rfl (xk2 rfl rfl xk0))) (fun x5_25 => ?_)
      refine xr_goto 8 F dJ11_hashCode_4_28 rfl ?_
      exact xI.sub [1, 2, 3, 0] rfl (ih x0_24 l1 l4 x5_25)
theorem fJ11_hashCode_4_m {l : Launch} {D : xD} {s0 : State} {b0 : Nat} {Γ : Nat → Option Nat} (G : xG l D s0 b0 Γ) (p0 : Int32) (p1 : Option Nat) (p2 : Int32) (p3 : Int32) : xMeth l D s0 Γ yJ11_hashCode_4 (Cond.code yJ11_hashCode_4 cJ11_hashCode_4 6 (some .int)) (1) (12) [.int p0, va_rf p1, .int p2, .int p3] xeI (fJ11_hashCode_4 p0 p1 p2 p3) := by
  refine xMeth.of (lv0 := [(0, .int p0), (1, va_rf p1), (2, .int p2), (3, .int p3)]) G (by decide +kernel) (Or.inl rfl) (by simp [lg_sl, xrf_cat, xct_i, xct_l, xct_d, xct_r]) (by simp [lv_args, xrf_cat, xct_i, xct_l, xct_d, xct_r, xrf_some]) (fun x F hnL hRm hmn ht e1 e2 e3 e4 => ?_)
  have hno : ∀ pc, xNo x pc := fun pc z hz => by rw [ht.1 rfl] at hz; cases hz
  unfold fJ11_hashCode_4
  refine xr_iload_n 2 F dJ11_hashCode_4_0 rfl ?_
  refine xr_iload_n 3 F dJ11_hashCode_4_1 rfl ?_
  refine xr_iadd F dJ11_hashCode_4_2 ?_
  refine xr_letI (fun x4_3 => ?_)
  refine xs_i [0, 1, 2] F dJ11_hashCode_4_3 hnL rfl rfl (xk1 rfl rfl (xk1 rfl rfl (xk1 rfl rfl xk0))) ?_
  refine xr_iload_n 3 F dJ11_hashCode_4_5 rfl ?_
  refine xs_i [0, 1, 2] F dJ11_hashCode_4_6 hnL rfl rfl (xk2 rfl rfl (xk1 rfl rfl (xk1 rfl rfl xk0))) ?_
  exact xI.sub [2, 3, 1, 0] rfl (fJ11_hashCode_4_p8_ok F hnL hRm hno hmn xFU p0 p1 x4_3 p2)
theorem fJ11_vectorizedHashCode_m {l : Launch} {D : xD} {s0 : State} {b0 : Nat} {Γ : Nat → Option Nat} (G : xG l D s0 b0 Γ) (p0 : Option Nat) (p1 : Int32) (p2 : Int32) (p3 : Int32) (p4 : Int32) : xMeth l D s0 Γ yJ11_vectorizedHashCode (Cond.code yJ11_vectorizedHashCode cJ11_vectorizedHashCode 5 (some .int)) (2) (37) [va_rf p0, .int p1, .int p2, .int p3, .int p4] xeI (fJ11_vectorizedHashCode p0 p1 p2 p3 p4) := by
  refine xMeth.of (lv0 := [(0, va_rf p0), (1, .int p1), (2, .int p2), (3, .int p3), (4, .int p4)]) G (by decide +kernel) (Or.inl rfl) (by simp [lg_sl, xrf_cat, xct_i, xct_l, xct_d, xct_r]) (by simp [lv_args, xrf_cat, xct_i, xct_l, xct_d, xct_r, xrf_some]) (fun x F hnL hRm hmn ht e1 e2 e3 e4 => ?_)
  have hno : ∀ pc, xNo x pc := fun pc z hz => by rw [ht.1 rfl] at hz; cases hz
  unfold fJ11_vectorizedHashCode
  refine xr_iload 4 F dJ11_vectorizedHashCode_0 rfl ?_
  refine xI.split (fun h_0 => ?_) (fun h_0 => ?_)
  · refine xr_tableIn 44 F dJ11_vectorizedHashCode_2 (by rw [h_0]; decide) (by rw [h_0]; decide) (by rw [h_0]; rfl) rfl ?_
    refine xr_iload_n 3 F dJ11_vectorizedHashCode_44 rfl ?_
    refine xr_aload_n 0 (r := p0) F dJ11_vectorizedHashCode_45 rfl ?_
    refine xr_castA (t := 0) (r := p0) F dJ11_vectorizedHashCode_46 q2169 (fun s9 c9 ty9 h9 g9 => by cases h9; exact g9) ?_
    refine xr_iload_n 1 F dJ11_vectorizedHashCode_49 rfl ?_
    refine xr_iload_n 2 F dJ11_vectorizedHashCode_50 rfl ?_
    refine xr_SI (y := yJ11_signedHashCode) (As := [.int p3, va_rf p0, .int p1, .int p2]) F (hno _) dJ11_vectorizedHashCode_51 (fJ11_signedHashCode_m (xFG F) p3 p0 p1 p2) (Or.inl rfl) q2172 q134 (Or.inl q2170) q2171 (xroom hRm (Nat.le_of_ble_eq_true rfl) (Nat.le_of_ble_eq_true rfl)) ⟨by decide, by decide⟩ n_J11_signedHashCode rfl (xcat (Nat.le_of_ble_eq_true rfl)) (fun v51 => ?_)
    refine xr_goto 157 F dJ11_vectorizedHashCode_54 rfl ?_
    exact xr_iret F dJ11_vectorizedHashCode_157
  · refine xI.split (fun h_1 => ?_) (fun h_1 => ?_)
    · refine xr_tableIn 57 F dJ11_vectorizedHashCode_2 (by rw [h_1]; decide) (by rw [h_1]; decide) (by rw [h_1]; rfl) rfl ?_
      refine xr_aload_n 0 (r := p0) F dJ11_vectorizedHashCode_57 rfl ?_
      exact xI.stuck
    · refine xI.split (fun h_2 => ?_) (fun h_2 => ?_)
      · refine xr_tableIn 129 F dJ11_vectorizedHashCode_2 (by rw [h_2]; decide) (by rw [h_2]; decide) (by rw [h_2]; rfl) rfl ?_
        exact xI.stuck
      · refine xI.split (fun h_3 => ?_) (fun h_3 => ?_)
        · refine xr_tableIn 129 F dJ11_vectorizedHashCode_2 (by rw [h_3]; decide) (by rw [h_3]; decide) (by rw [h_3]; rfl) rfl ?_
          exact xI.stuck
        · refine xI.split (fun h_4 => ?_) (fun h_4 => ?_)
          · refine xr_tableIn 90 F dJ11_vectorizedHashCode_2 (by rw [h_4]; decide) (by rw [h_4]; decide) (by rw [h_4]; rfl) rfl ?_
            refine xr_iload_n 3 F dJ11_vectorizedHashCode_90 rfl ?_
            refine xr_aload_n 0 (r := p0) F dJ11_vectorizedHashCode_91 rfl ?_
            refine xr_castA (t := 0) (r := p0) F dJ11_vectorizedHashCode_92 q2169 (fun s9 c9 ty9 h9 g9 => by cases h9; exact g9) ?_
            refine xr_iload_n 1 F dJ11_vectorizedHashCode_95 rfl ?_
            refine xr_iload_n 2 F dJ11_vectorizedHashCode_96 rfl ?_
            refine xr_SI (y := yJ11_hashCode_2) (As := [.int p3, va_rf p0, .int p1, .int p2]) F (hno _) dJ11_vectorizedHashCode_97 (fJ11_hashCode_2_m (xFG F) p3 p0 p1 p2) (Or.inl rfl) q2195 q134 (Or.inl q2193) q2194 (xroom hRm (Nat.le_of_ble_eq_true rfl) (Nat.le_of_ble_eq_true rfl)) ⟨by decide, by decide⟩ n_J11_hashCode_2 rfl (xcat (Nat.le_of_ble_eq_true rfl)) (fun v97 => ?_)
            refine xr_goto 157 F dJ11_vectorizedHashCode_100 rfl ?_
            exact xr_iret F dJ11_vectorizedHashCode_157
          · refine xI.split (fun h_5 => ?_) (fun h_5 => ?_)
            · refine xr_tableIn 103 F dJ11_vectorizedHashCode_2 (by rw [h_5]; decide) (by rw [h_5]; decide) (by rw [h_5]; rfl) rfl ?_
              refine xr_iload_n 3 F dJ11_vectorizedHashCode_103 rfl ?_
              refine xr_aload_n 0 (r := p0) F dJ11_vectorizedHashCode_104 rfl ?_
              exact xI.stuck
            · refine xI.split (fun h_6 => ?_) (fun h_6 => ?_)
              · refine xr_tableIn 116 F dJ11_vectorizedHashCode_2 (by rw [h_6]; decide) (by rw [h_6]; decide) (by rw [h_6]; rfl) rfl ?_
                refine xr_iload_n 3 F dJ11_vectorizedHashCode_116 rfl ?_
                refine xr_aload_n 0 (r := p0) F dJ11_vectorizedHashCode_117 rfl ?_
                refine xr_castA (t := 1) (r := p0) F dJ11_vectorizedHashCode_118 q2200 (fun s9 c9 ty9 h9 g9 => by cases h9; exact g9) ?_
                refine xr_iload_n 1 F dJ11_vectorizedHashCode_121 rfl ?_
                refine xr_iload_n 2 F dJ11_vectorizedHashCode_122 rfl ?_
                refine xr_SI (y := yJ11_hashCode_4) (As := [.int p3, va_rf p0, .int p1, .int p2]) F (hno _) dJ11_vectorizedHashCode_123 (fJ11_hashCode_4_m (xFG F) p3 p0 p1 p2) (Or.inl rfl) q2203 q134 (Or.inl q2201) q2202 (xroom hRm (Nat.le_of_ble_eq_true rfl) (Nat.le_of_ble_eq_true rfl)) ⟨by decide, by decide⟩ n_J11_hashCode_4 rfl (xcat (Nat.le_of_ble_eq_true rfl)) (fun v123 => ?_)
                refine xr_goto 157 F dJ11_vectorizedHashCode_126 rfl ?_
                exact xr_iret F dJ11_vectorizedHashCode_157
              · refine xr_tableOut 129 F dJ11_vectorizedHashCode_2 (by intro i g1 g2; have g3 : i = 4 ∨ i = 5 ∨ i = 6 ∨ i = 7 ∨ i = 8 ∨ i = 9 ∨ i = 10 := (by omega); rcases g3 with rfl | rfl | rfl | rfl | rfl | rfl | rfl; all_goals assumption) rfl ?_
                exact xI.stuck
theorem fJ15_hashCode_m {l : Launch} {D : xD} {s0 : State} {b0 : Nat} {Γ : Nat → Option Nat} (G : xG l D s0 b0 Γ) (p0 : Option Nat) : xMeth l D s0 Γ yJ15_hashCode (Cond.code yJ15_hashCode cJ15_hashCode 1 (some .int)) (3) (61) [va_rf p0] xeI (fJ15_hashCode p0) := by
  refine xMeth.of (lv0 := [(0, va_rf p0)]) G (by decide +kernel) (Or.inl rfl) (by simp [lg_sl, xrf_cat, xct_i, xct_l, xct_d, xct_r]) (by simp [lv_args, xrf_cat, xct_i, xct_l, xct_d, xct_r, xrf_some]) (fun x F hnL hRm hmn ht e1 e2 e3 e4 => ?_)
  have hno : ∀ pc, xNo x pc := fun pc z hz => by rw [ht.1 rfl] at hz; cases hz
  unfold fJ15_hashCode
  refine xr_aload_n 0 (r := p0) F dJ15_hashCode_0 rfl ?_
  refine xr_len (r := p0) F dJ15_hashCode_1 (fun v1 => ?_)
  refine xI.split (fun h_0 => ?_) (fun h_0 => ?_)
  · refine xr_lookup (off := 26) 28 F dJ15_hashCode_2 (by decide) (by first | (rw [h_0]; done) | (rw [h_0]; rfl)) rfl ?_
    refine xr_iconst (0 : Int32) F dJ15_hashCode_28 rfl ?_
    refine xr_goto 51 F dJ15_hashCode_29 rfl ?_
    exact xr_iret F dJ15_hashCode_51
  · refine xI.split (fun h_1 => ?_) (fun h_1 => ?_)
    · refine xr_lookup (off := 30) 32 F dJ15_hashCode_2 (by decide) (by first | (rw [h_1]; done) | (rw [h_1]; rfl)) rfl ?_
      refine xr_aload_n 0 (r := p0) F dJ15_hashCode_32 rfl ?_
      refine xr_iconst (0 : Int32) F dJ15_hashCode_33 rfl ?_
      refine xr_bald (r := p0) F dJ15_hashCode_34 (fun v34 => ?_)
      refine xr_sipush (255 : Int32) F dJ15_hashCode_35 rfl ?_
      refine xr_iand F dJ15_hashCode_38 ?_
      refine xr_goto 51 F dJ15_hashCode_39 rfl ?_
      exact xr_iret F dJ15_hashCode_51
    · refine xr_lookup (off := 40) 42 F dJ15_hashCode_2 (by decide) ((lv_osw (a := 0) h_0 (by decide)).trans ((lv_osw (a := 1) h_1 (by decide)).trans rfl)) rfl ?_
      refine xr_aload_n 0 (r := p0) F dJ15_hashCode_42 rfl ?_
      refine xr_iconst (0 : Int32) F dJ15_hashCode_43 rfl ?_
      refine xr_aload_n 0 (r := p0) F dJ15_hashCode_44 rfl ?_
      refine xr_len (r := p0) F dJ15_hashCode_45 (fun v45 => ?_)
      refine xr_iconst (0 : Int32) F dJ15_hashCode_46 rfl ?_
      refine xr_iconst (4 : Int32) F dJ15_hashCode_47 rfl ?_
      refine xr_SI (y := yJ11_vectorizedHashCode) (As := [va_rf p0, .int (0 : Int32), .int v45, .int (0 : Int32), .int (4 : Int32)]) F (hno _) dJ15_hashCode_48 (fJ11_vectorizedHashCode_m (xFG F) p0 (0 : Int32) v45 (0 : Int32) (4 : Int32)) (Or.inl rfl) q2168 q134 (Or.inl q2166) q2167 (xroom hRm (Nat.le_of_ble_eq_true rfl) (Nat.le_of_ble_eq_true rfl)) ⟨by decide, by decide⟩ n_J11_vectorizedHashCode rfl (xcat (Nat.le_of_ble_eq_true rfl)) (fun v48 => ?_)
      exact xr_iret F dJ15_hashCode_51
theorem fJ9_hashCode_p40_ok {x : xC} (F : xF x RJ9 cJ9_hashCode (some .int)) (hnL : xnL x = 2) (hRm : ∃ dc ds, x.2.2.2.1 = { frames := 4, cells := dc, slots := ds, locals := 81 }) (hno : ∀ pc, xNo x pc) (hmn : xmn x = "hashCode" ∧ xmy x yJ9_hashCode) (l0 : Nat) (s0 : Int32) : xI x xeI 40 [(0, va_rf (some l0))] [.int s0] (fJ9_hashCode_p40 l0 s0) := by
  unfold fJ9_hashCode_p40
  refine xs_i_n [0] F dJ9_hashCode_40 hnL rfl rfl (xk2 rfl (xrf_cat _) xk0) ?_
  refine xr_iload_n 0 F dJ9_hashCode_41 rfl ?_
  refine xr_if_ne 53 F dJ9_hashCode_42 rfl ?_ ?_
  · refine xr_aload_n 1 (r := (some l0)) F dJ9_hashCode_45 rfl ?_
    refine xr_iconst (1 : Int32) F dJ9_hashCode_46 rfl ?_
    refine xr_pN (r := (some l0)) (ref := "java/lang/String") F dJ9_hashCode_47 xk_5 (by decide) (Or.inl q532) (Or.inl rfl) (Or.inl rfl) ?_
    refine xr_goto 58 F dJ9_hashCode_50 rfl ?_
    refine xr_iload_n 0 F dJ9_hashCode_58 rfl ?_
    exact xr_iret F dJ9_hashCode_59
  · refine xr_aload_n 1 (r := (some l0)) F dJ9_hashCode_53 rfl ?_
    refine xr_iload_n 0 F dJ9_hashCode_54 rfl ?_
    refine xr_put (r := (some l0)) (ref := "java/lang/String") F dJ9_hashCode_55 xk_5 (by decide) (Or.inl q531) (Or.inl rfl) (Or.inl rfl) ⟨rfl, rfl⟩ ?_
    refine xr_iload_n 0 F dJ9_hashCode_58 rfl ?_
    exact xr_iret F dJ9_hashCode_59
theorem fJ9_hashCode_m {l : Launch} {D : xD} {s0 : State} {b0 : Nat} {Γ : Nat → Option Nat} (G : xG l D s0 b0 Γ) (a0 : Nat) : xMeth l D s0 Γ yJ9_hashCode (Cond.code yJ9_hashCode cJ9_hashCode 2 (some .int)) (4) (81) [.ref a0] xeI (fJ9_hashCode a0) := by
  refine xMeth.of (lv0 := [(0, va_rf (some a0))]) G (by decide +kernel) (Or.inl rfl) (Nat.le_of_ble_eq_true rfl) rfl (fun x F hnL hRm hmn ht e1 e2 e3 e4 => ?_)
  have hno : ∀ pc, xNo x pc := fun pc z hz => by rw [ht.1 rfl] at hz; cases hz
  unfold fJ9_hashCode
  refine xr_aload_n 0 (r := (some a0)) F dJ9_hashCode_0 rfl ?_
  refine xr_gI (r := (some a0)) (ref := "java/lang/String") F dJ9_hashCode_1 (C := RJ9) (T := TJ9) (N := 4) rfl (by decide) (Or.inl q531) (Or.inl rfl) (fun v1 => ?_)
  refine xs_i_n [0] F dJ9_hashCode_4 hnL rfl rfl (xk2 rfl (xrf_cat _) xk0) ?_
  refine xr_iload_n 0 F dJ9_hashCode_5 rfl ?_
  refine xr_if_ne 58 F dJ9_hashCode_6 rfl ?_ ?_
  · refine xr_aload_n 1 (r := (some a0)) F dJ9_hashCode_9 rfl ?_
    refine xr_gI (r := (some a0)) (ref := "java/lang/String") F dJ9_hashCode_10 (C := RJ9) (T := TJ9) (N := 4) rfl (by decide) (Or.inl q532) (Or.inl rfl) (fun v10 => ?_)
    refine xr_if_ne 58 F dJ9_hashCode_13 rfl ?_ ?_
    · refine xr_aload_n 1 (r := (some a0)) F dJ9_hashCode_16 rfl ?_
      refine xr_VI (y := yJ9_isLatin1) (As := []) (r := (some a0)) F (hno _) dJ9_hashCode_17 (fun z => fJ9_isLatin1_m (xFG F) z) (Or.inl rfl) (ci := 5) (C := RJ9) (T := TJ9) rfl q1730 q1727 q1728 q1729 (xroom hRm (Nat.le_of_ble_eq_true rfl) (Nat.le_of_ble_eq_true rfl)) ⟨by decide, by decide⟩ n_J9_isLatin1 rfl (xcat (Nat.le_of_ble_eq_true rfl)) (fun v17 => ?_)
      refine xr_if_eq 33 F dJ9_hashCode_20 rfl ?_ ?_
      · refine xr_aload_n 1 (r := (some a0)) F dJ9_hashCode_33 rfl ?_
        refine xr_gR (r := (some a0)) (ref := "java/lang/String") F dJ9_hashCode_34 (C := RJ9) (T := TJ9) (N := 4) rfl (by decide) (Or.inl q529) (Or.inl rfl) (fun v34 => ?_)
        exact xI.stuck
      · refine xr_aload_n 1 (r := (some a0)) F dJ9_hashCode_23 rfl ?_
        refine xr_gR (r := (some a0)) (ref := "java/lang/String") F dJ9_hashCode_24 (C := RJ9) (T := TJ9) (N := 4) rfl (by decide) (Or.inl q529) (Or.inl rfl) (fun v24 => ?_)
        refine xr_SI (y := yJ15_hashCode) (As := [va_rf v24]) F (hno _) dJ9_hashCode_27 (fJ15_hashCode_m (xFG F) v24) (Or.inl rfl) q2165 q139 (Or.inl q2163) q2164 (xroom hRm (Nat.le_of_ble_eq_true rfl) (Nat.le_of_ble_eq_true rfl)) ⟨by decide, by decide⟩ n_J15_hashCode rfl (xcat (Nat.le_of_ble_eq_true rfl)) (fun v27 => ?_)
        refine xr_goto 40 F dJ9_hashCode_30 rfl ?_
        exact xI.sub [1] rfl (fJ9_hashCode_p40_ok F hnL hRm hno hmn a0 v27)
    · refine xr_iload_n 0 F dJ9_hashCode_58 rfl ?_
      exact xr_iret F dJ9_hashCode_59
  · refine xr_iload_n 0 F dJ9_hashCode_58 rfl ?_
    exact xr_iret F dJ9_hashCode_59
theorem fJ15_equals_p9_ok {x : xC} (F : xF x RJ15 cJ15_equals (some .boolean)) (hnL : xnL x = 3) (hRm : ∃ dc ds, x.2.2.2.1 = { frames := 1, cells := dc, slots := ds, locals := 12 }) (hno : ∀ pc, xNo x pc) (hmn : xmn x = "equals" ∧ xmy x yJ15_equals) : ∀ (n : Nat) (l0 : Option Nat) (l1 : Option Nat) (l2 : Int32), xI x xeI 9 [(0, va_rf l0), (1, va_rf l1), (2, .int l2)] [] (fJ15_equals_p9 n l0 l1 l2) := by
  intro n
  induction n with
  | zero => intro l0 l1 l2; exact xI.stuck
  | succ n ih =>
    intro l0 l1 l2
    unfold fJ15_equals_p9
    refine xr_iload_n 2 F dJ15_equals_9 rfl ?_
    refine xr_aload_n 0 (r := l0) F dJ15_equals_10 rfl ?_
    refine xr_len (r := l0) F dJ15_equals_11 (fun v11 => ?_)
    refine xr_icmp_ge 32 F dJ15_equals_12 rfl ?_ ?_
    · refine xr_iconst (1 : Int32) F dJ15_equals_32 rfl ?_
      exact xr_zret F dJ15_equals_33 rfl
    · refine xr_aload_n 0 (r := l0) F dJ15_equals_15 rfl ?_
      refine xr_iload_n 2 F dJ15_equals_16 rfl ?_
      refine xr_bald (r := l0) F dJ15_equals_17 (fun v17 => ?_)
      refine xr_aload_n 1 (r := l1) F dJ15_equals_18 rfl ?_
      refine xr_iload_n 2 F dJ15_equals_19 rfl ?_
      refine xr_bald (r := l1) F dJ15_equals_20 (fun v20 => ?_)
      refine xr_icmp_eq 26 F dJ15_equals_21 rfl ?_ ?_
      · refine xs_inc [2, 0, 1] F dJ15_equals_26 rfl hnL rfl rfl (xk1 rfl rfl (xk2 rfl (xrf_cat _) xk0)) (fun x2_26 => ?_)
        refine xr_goto 9 F dJ15_equals_29 rfl ?_
        exact xI.sub [1, 2, 0] rfl (ih l0 l1 x2_26)
      · refine xr_iconst (0 : Int32) F dJ15_equals_24 rfl ?_
        exact xr_zret F dJ15_equals_25 rfl
theorem fJ15_equals_m {l : Launch} {D : xD} {s0 : State} {b0 : Nat} {Γ : Nat → Option Nat} (G : xG l D s0 b0 Γ) (p0 : Option Nat) (p1 : Option Nat) : xMeth l D s0 Γ yJ15_equals (Cond.code yJ15_equals cJ15_equals 3 (some .boolean)) (1) (12) [va_rf p0, va_rf p1] xeI (fJ15_equals p0 p1) := by
  refine xMeth.of (lv0 := [(0, va_rf p0), (1, va_rf p1)]) G (by decide +kernel) (Or.inl rfl) (by simp [lg_sl, xrf_cat, xct_i, xct_l, xct_d, xct_r]) (by simp [lv_args, xrf_cat, xct_i, xct_l, xct_d, xct_r, xrf_some]) (fun x F hnL hRm hmn ht e1 e2 e3 e4 => ?_)
  have hno : ∀ pc, xNo x pc := fun pc z hz => by rw [ht.1 rfl] at hz; cases hz
  unfold fJ15_equals
  refine xr_aload_n 0 (r := p0) F dJ15_equals_0 rfl ?_
  refine xr_len (r := p0) F dJ15_equals_1 (fun v1 => ?_)
  refine xr_aload_n 1 (r := p1) F dJ15_equals_2 rfl ?_
  refine xr_len (r := p1) F dJ15_equals_3 (fun v3 => ?_)
  refine xr_icmp_ne 34 F dJ15_equals_4 rfl ?_ ?_
  · refine xr_iconst (0 : Int32) F dJ15_equals_7 rfl ?_
    refine xr_letI (fun x2_8 => ?_)
    refine xs_i_n [0, 1] F dJ15_equals_8 hnL rfl rfl (xk1 rfl rfl (xk2 rfl (xrf_cat _) xk0)) ?_
    exact xI.sub [1, 2, 0] rfl (fJ15_equals_p9_ok F hnL hRm hno hmn xFU p0 p1 x2_8)
  · refine xr_iconst (0 : Int32) F dJ15_equals_34 rfl ?_
    exact xr_zret F dJ15_equals_35 rfl
