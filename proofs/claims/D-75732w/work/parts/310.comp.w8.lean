theorem fJ29_put_m {l : Launch} {D : xD} {s0 : State} {b0 : Nat} {Γ : Nat → Option Nat} (G : xG l D s0 b0 Γ) (a0 : Nat) (p0 : Option Nat) (p1 : Option Nat) : xMeth l D s0 Γ yJ29_put (Cond.code yJ29_put cJ29_put 3 (some (.object "java/lang/Object"))) (8) (171) [.ref a0, va_rf p0, va_rf p1] xeR (fJ29_put a0 p0 p1) := by
  refine xMeth.of (lv0 := [(0, va_rf (some a0)), (1, va_rf p0), (2, va_rf p1)]) G (by decide +kernel) (Or.inl rfl) (by simp [lg_sl, xrf_cat, xct_i, xct_l, xct_d, xct_r]) (by simp [lv_args, xrf_cat, xct_i, xct_l, xct_d, xct_r, xrf_some]) (fun x F hnL hRm hmn ht e1 e2 e3 e4 => ?_)
  have hno : ∀ pc, xNo x pc := fun pc z hz => by rw [ht.1 rfl] at hz; cases hz
  unfold fJ29_put
  refine xr_aload_n 0 (r := (some a0)) F dJ29_put_0 rfl ?_
  refine xr_aload_n 1 (r := p0) F dJ29_put_1 rfl ?_
  refine xr_aload_n 2 (r := p1) F dJ29_put_2 rfl ?_
  refine xr_iconst (1 : Int32) F dJ29_put_3 rfl ?_
  refine xr_VR (y := yJ29_put_2) (As := [va_rf p0, va_rf p1, .int (1 : Int32)]) (r := (some a0)) F (hno _) dJ29_put_4 (fun z => fJ29_put_2_m (xFG F) z p0 p1 (1 : Int32)) (Or.inl rfl) (ci := 16) (C := RJ29) (T := TJ29) rfl q3148 q3145 q3147 qs45 (xroom hRm (Nat.le_of_ble_eq_true rfl) (Nat.le_of_ble_eq_true rfl)) ⟨by decide, by decide⟩ n_J29_put_2 rfl (xcat (Nat.le_of_ble_eq_true rfl)) (fun v4 => ?_)
  exact xr_aret (v := v4) F dJ29_put_7 (Or.inl ⟨_, rfl⟩)
theorem fX6_close_m {l : Launch} {D : xD} {s0 : State} {b0 : Nat} {Γ : Nat → Option Nat} (G : xG l D s0 b0 Γ) (a0 : Nat) (p0 : Int32) : xMeth l D s0 Γ yX6_close (Cond.code yX6_close cX6_close 4 none) (5004) (112081) [.ref a0, .int p0] xeV (fX6_close a0 p0) := by
  refine xMeth.of (lv0 := [(0, va_rf (some a0)), (1, .int p0)]) G (by decide +kernel) (Or.inl rfl) (Nat.le_of_ble_eq_true rfl) rfl (fun x F hnL hRm hmn ht e1 e2 e3 e4 => ?_)
  have hno : ∀ pc, xNo x pc := fun pc z hz => by rw [ht.1 rfl] at hz; cases hz
  unfold fX6_close
  refine xr_aload_n 0 (r := (some a0)) F dX6_close_0 rfl ?_
  refine xr_gR (r := (some a0)) (ref := "ReserveLedger$Herd") F dX6_close_1 (C := RX6) (T := TX6) (N := 8) rfl (by decide) (Or.inl q2042) (Or.inl rfl) (fun v1 => ?_)
  refine xr_VI (y := yX10_total) (As := []) (r := v1) F (hno _) dX6_close_4 (fun z => fX10_total_m (xFG F) z) (Or.inl rfl) (ci := 24) (C := RX10) (T := TX10) rfl q1642 q1639 q1640 q1641 (xroom hRm (Nat.le_of_ble_eq_true rfl) (Nat.le_of_ble_eq_true rfl)) ⟨by decide, by decide⟩ n_X10_total rfl (xcat (Nat.le_of_ble_eq_true rfl)) (fun v4 => ?_)
  refine xs_i_n [0, 1] F dX6_close_7 hnL rfl rfl (xk1 rfl rfl (xk2 rfl rfl xk0)) ?_
  refine xr_aload_n 1 (r := (some a0)) F dX6_close_8 rfl ?_
  refine xr_gR (r := (some a0)) (ref := "ReserveLedger$Herd") F dX6_close_9 (C := RX6) (T := TX6) (N := 8) rfl (by decide) (Or.inl q2042) (Or.inl rfl) (fun v9 => ?_)
  refine xr_aload_n 1 (r := (some a0)) F dX6_close_12 rfl ?_
  refine xr_gR (r := (some a0)) (ref := "ReserveLedger$Herd") F dX6_close_13 (C := RX6) (T := TX6) (N := 8) rfl (by decide) (Or.inl q2039) (Or.inl rfl) (fun v13 => ?_)
  refine xr_aload_n 1 (r := (some a0)) F dX6_close_16 rfl ?_
  refine xr_gI (r := (some a0)) (ref := "ReserveLedger$Herd") F dX6_close_17 (C := RX6) (T := TX6) (N := 8) rfl (by decide) (Or.inl q2045) (Or.inl rfl) (fun v17 => ?_)
  refine xr_VV (y := yX10_close) (As := [va_rf v13, .int v17]) (r := v9) F (hno _) dX6_close_20 (fun z => fX10_close_m (xFG F) z v13 v17) (Or.inl rfl) (ci := 24) (C := RX10) (T := TX10) rfl q2938 q3140 q2936 q2937 (xroom hRm (Nat.le_of_ble_eq_true rfl) (Nat.le_of_ble_eq_true rfl)) ⟨by decide, by decide⟩ n_X10_close rfl (xcat (Nat.le_of_ble_eq_true rfl)) (fun _ => ?_)
  refine xr_aload_n 1 (r := (some a0)) F dX6_close_23 rfl ?_
  refine xr_iload_n 0 F dX6_close_24 rfl ?_
  refine xr_aload_n 1 (r := (some a0)) F dX6_close_25 rfl ?_
  refine xr_gR (r := (some a0)) (ref := "ReserveLedger$Herd") F dX6_close_26 (C := RX6) (T := TX6) (N := 8) rfl (by decide) (Or.inl q2042) (Or.inl rfl) (fun v26 => ?_)
  refine xr_gI (r := v26) (ref := "ReserveLedger$Stock") F dX6_close_29 (C := RX10) (T := TX10) (N := 4) rfl (by decide) (Or.inr ⟨_, q2024⟩) (Or.inl rfl) (fun v29 => ?_)
  refine xr_VV (y := yX6_lose) (As := [.int v4, .int v29]) (r := (some a0)) F (hno _) dX6_close_32 (fun z => fX6_lose_m (xFG F) z v4 v29) (Or.inl rfl) (ci := 19) (C := RX6) (T := TX6) rfl q3115 q3112 q3114 qs44 (xroom hRm (Nat.le_of_ble_eq_true rfl) (Nat.le_of_ble_eq_true rfl)) ⟨by decide, by decide⟩ n_X6_lose rfl (xcat (Nat.le_of_ble_eq_true rfl)) (fun _ => ?_)
  refine xr_aload_n 1 (r := (some a0)) F dX6_close_35 rfl ?_
  refine xr_gR (r := (some a0)) (ref := "ReserveLedger$Herd") F dX6_close_36 (C := RX6) (T := TX6) (N := 8) rfl (by decide) (Or.inl q2052) (Or.inl rfl) (fun v36 => ?_)
  refine xr_dup F dX6_close_39 (xrf_cat _) ?_
  refine xr_gI (r := v36) (ref := "ReserveLedger$Ledger") F dX6_close_40 (C := RX9) (T := TX9) (N := 7) rfl (by decide) (Or.inr ⟨_, q1961⟩) (Or.inl rfl) (fun v40 => ?_)
  refine xr_aload_n 1 (r := (some a0)) F dX6_close_43 rfl ?_
  refine xr_gR (r := (some a0)) (ref := "ReserveLedger$Herd") F dX6_close_44 (C := RX6) (T := TX6) (N := 8) rfl (by decide) (Or.inl q2042) (Or.inl rfl) (fun v44 => ?_)
  refine xr_gI (r := v44) (ref := "ReserveLedger$Stock") F dX6_close_47 (C := RX10) (T := TX10) (N := 4) rfl (by decide) (Or.inr ⟨_, q2026⟩) (Or.inl rfl) (fun v47 => ?_)
  refine xr_iadd F dX6_close_50 ?_
  refine xr_put (r := v36) (ref := "ReserveLedger$Ledger") F dX6_close_51 xk_22 (by decide) (Or.inr ⟨_, q1961⟩) (Or.inl rfl) (Or.inl rfl) ⟨rfl, rfl⟩ ?_
  refine xr_aload_n 1 (r := (some a0)) F dX6_close_54 rfl ?_
  refine xr_gR (r := (some a0)) (ref := "ReserveLedger$Herd") F dX6_close_55 (C := RX6) (T := TX6) (N := 8) rfl (by decide) (Or.inl q2052) (Or.inl rfl) (fun v55 => ?_)
  refine xr_dup F dX6_close_58 (xrf_cat _) ?_
  refine xr_gI (r := v55) (ref := "ReserveLedger$Ledger") F dX6_close_59 (C := RX9) (T := TX9) (N := 7) rfl (by decide) (Or.inr ⟨_, q1964⟩) (Or.inl rfl) (fun v59 => ?_)
  refine xr_iload_n 0 F dX6_close_62 rfl ?_
  refine xr_aload_n 1 (r := (some a0)) F dX6_close_63 rfl ?_
  refine xr_gR (r := (some a0)) (ref := "ReserveLedger$Herd") F dX6_close_64 (C := RX6) (T := TX6) (N := 8) rfl (by decide) (Or.inl q2042) (Or.inl rfl) (fun v64 => ?_)
  refine xr_gI (r := v64) (ref := "ReserveLedger$Stock") F dX6_close_67 (C := RX10) (T := TX10) (N := 4) rfl (by decide) (Or.inr ⟨_, q2024⟩) (Or.inl rfl) (fun v67 => ?_)
  refine xr_isub F dX6_close_70 ?_
  refine xr_iadd F dX6_close_71 ?_
  refine xr_put (r := v55) (ref := "ReserveLedger$Ledger") F dX6_close_72 xk_22 (by decide) (Or.inr ⟨_, q1964⟩) (Or.inl rfl) (Or.inl rfl) ⟨rfl, rfl⟩ ?_
  refine xr_aload_n 1 (r := (some a0)) F dX6_close_75 rfl ?_
  refine xr_gR (r := (some a0)) (ref := "ReserveLedger$Herd") F dX6_close_76 (C := RX6) (T := TX6) (N := 8) rfl (by decide) (Or.inl q2052) (Or.inl rfl) (fun v76 => ?_)
  refine xr_aload_n 1 (r := (some a0)) F dX6_close_79 rfl ?_
  refine xr_gR (r := (some a0)) (ref := "ReserveLedger$Herd") F dX6_close_80 (C := RX6) (T := TX6) (N := 8) rfl (by decide) (Or.inl q2042) (Or.inl rfl) (fun v80 => ?_)
  refine xr_VI (y := yX10_total) (As := []) (r := v80) F (hno _) dX6_close_83 (fun z => fX10_total_m (xFG F) z) (Or.inl rfl) (ci := 24) (C := RX10) (T := TX10) rfl q1642 q1639 q1640 q1641 (xroom hRm (Nat.le_of_ble_eq_true rfl) (Nat.le_of_ble_eq_true rfl)) ⟨by decide, by decide⟩ n_X10_total rfl (xcat (Nat.le_of_ble_eq_true rfl)) (fun v83 => ?_)
  refine xr_put (r := v76) (ref := "ReserveLedger$Ledger") F dX6_close_86 xk_22 (by decide) (Or.inr ⟨_, q1973⟩) (Or.inl rfl) (Or.inl rfl) ⟨rfl, rfl⟩ ?_
  refine xr_aload_n 1 (r := (some a0)) F dX6_close_89 rfl ?_
  refine xr_gR (r := (some a0)) (ref := "ReserveLedger$Herd") F dX6_close_90 (C := RX6) (T := TX6) (N := 8) rfl (by decide) (Or.inl q2036) (Or.inl rfl) (fun v90 => ?_)
  refine xr_gR (r := v90) (ref := "ReserveLedger$Species") F dX6_close_93 (C := RX7) (T := TX7) (N := 6) rfl (by decide) (Or.inr ⟨_, q1934⟩) (Or.inl rfl) (fun v93 => ?_)
  refine xr_iload_n 2 F dX6_close_96 rfl ?_
  refine xr_SR (y := yJ17_valueOf) (As := [.int p0]) F (hno _) dX6_close_97 (fJ17_valueOf_m (xFG F) p0) (Or.inl rfl) q1304 q141 (Or.inl q1302) q1303 (xroom hRm (Nat.le_of_ble_eq_true rfl) (Nat.le_of_ble_eq_true rfl)) ⟨by decide, by decide⟩ n_J17_valueOf rfl (xcat (Nat.le_of_ble_eq_true rfl)) (fun v97 => ?_)
  refine xr_aload_n 1 (r := (some a0)) F dX6_close_100 rfl ?_
  refine xr_gR (r := (some a0)) (ref := "ReserveLedger$Herd") F dX6_close_101 (C := RX6) (T := TX6) (N := 8) rfl (by decide) (Or.inl q2052) (Or.inl rfl) (fun v101 => ?_)
  refine xr_VR (y := yJ29_put) (As := [va_rf v97, va_rf v101]) (r := v93) F (hno _) dX6_close_104 (fun z => fJ29_put_m (xFG F) z v97 v101) (Or.inl rfl) (ci := 16) (C := RJ29) (T := TJ29) rfl q3144 q3141 q3142 q3143 (xroom hRm (Nat.le_of_ble_eq_true rfl) (Nat.le_of_ble_eq_true rfl)) ⟨by decide, by decide⟩ n_J29_put rfl (xcat (Nat.le_of_ble_eq_true rfl)) (fun v104 => ?_)
  refine xr_castE (ci := 22) (r := v104) F dX6_close_107 q1638 rfl ?_
  refine xs_a_n [1, 2] F dX6_close_110 hnL rfl rfl (xk1 rfl rfl (xk1 rfl rfl xk0)) ?_
  refine xr_aload_n 1 (r := (some a0)) F dX6_close_111 rfl ?_
  refine xr_iload_n 2 F dX6_close_112 rfl ?_
  refine xr_iconst (1 : Int32) F dX6_close_113 rfl ?_
  refine xr_iadd F dX6_close_114 ?_
  refine xr_VV (y := yX6_begin) (As := [.int (p0 + (1 : Int32))]) (r := (some a0)) F (hno _) dX6_close_115 (fun z => fX6_begin_m (xFG F) z (p0 + (1 : Int32))) (Or.inr ⟨_, rfl⟩) (ci := 19) (C := RX6) (T := TX6) rfl q2312 q3191 q2310 q2311 (xroom hRm (Nat.le_of_ble_eq_true rfl) (Nat.le_of_ble_eq_true rfl)) ⟨by decide, by decide⟩ n_X6_begin rfl (xcat (Nat.le_of_ble_eq_true rfl)) (fun _ => ?_)
  exact xr_vret F dX6_close_118
theorem fJ45_peek_m {l : Launch} {D : xD} {s0 : State} {b0 : Nat} {Γ : Nat → Option Nat} (G : xG l D s0 b0 Γ) (a0 : Nat) : xMeth l D s0 Γ yJ45_peek (Cond.code yJ45_peek cJ45_peek 1 (some (.object "java/lang/Object"))) (1) (12) [.ref a0] xeR (fJ45_peek a0) := by
  refine xMeth.of (lv0 := [(0, va_rf (some a0))]) G (by decide +kernel) (Or.inl rfl) (Nat.le_of_ble_eq_true rfl) rfl (fun x F hnL hRm hmn ht e1 e2 e3 e4 => ?_)
  have hno : ∀ pc, xNo x pc := fun pc z hz => by rw [ht.1 rfl] at hz; cases hz
  unfold fJ45_peek
  refine xr_aload_n 0 (r := (some a0)) F dJ45_peek_0 rfl ?_
  refine xr_gR (r := (some a0)) (ref := "java/util/PriorityQueue") F dJ45_peek_1 (C := RJ45) (T := TJ45) (N := 4) rfl (by decide) (Or.inl q2836) (Or.inl rfl) (fun v1 => ?_)
  refine xr_iconst (0 : Int32) F dJ45_peek_4 rfl ?_
  refine xr_aald (r := v1) F dJ45_peek_5 (fun v5 => ?_)
  exact xr_aret (v := v5) F dJ45_peek_6 (Or.inl ⟨_, rfl⟩)
theorem fX6_add_m {l : Launch} {D : xD} {s0 : State} {b0 : Nat} {Γ : Nat → Option Nat} (G : xG l D s0 b0 Γ) (a0 : Nat) (p0 : Int32) (p1 : Int32) : xMeth l D s0 Γ yX6_add (Cond.code yX6_add cX6_add 3 none) (1) (12) [.ref a0, .int p0, .int p1] xeV (fX6_add a0 p0 p1) := by
  refine xMeth.of (lv0 := [(0, va_rf (some a0)), (1, .int p0), (2, .int p1)]) G (by decide +kernel) (Or.inl rfl) (Nat.le_of_ble_eq_true rfl) rfl (fun x F hnL hRm hmn ht e1 e2 e3 e4 => ?_)
  have hno : ∀ pc, xNo x pc := fun pc z hz => by rw [ht.1 rfl] at hz; cases hz
  unfold fX6_add
  refine xr_aload_n 0 (r := (some a0)) F dX6_add_0 rfl ?_
  refine xr_gR (r := (some a0)) (ref := "ReserveLedger$Herd") F dX6_add_1 (C := RX6) (T := TX6) (N := 8) rfl (by decide) (Or.inl q2042) (Or.inl rfl) (fun v1 => ?_)
  refine xr_gR (r := v1) (ref := "ReserveLedger$Stock") F dX6_add_4 (C := RX10) (T := TX10) (N := 4) rfl (by decide) (Or.inr ⟨_, q2020⟩) (Or.inl rfl) (fun v4 => ?_)
  refine xr_iload_n 1 F dX6_add_7 rfl ?_
  refine xr_dup2_11 F dX6_add_8 rfl (xrf_cat _) ?_
  refine xr_iald (r := v4) F dX6_add_9 (fun v9 => ?_)
  refine xr_iload_n 2 F dX6_add_10 rfl ?_
  refine xr_iadd F dX6_add_11 ?_
  refine xr_iast (r := v4) F dX6_add_12 ?_
  refine xr_aload_n 0 (r := (some a0)) F dX6_add_13 rfl ?_
  refine xr_gR (r := (some a0)) (ref := "ReserveLedger$Herd") F dX6_add_14 (C := RX6) (T := TX6) (N := 8) rfl (by decide) (Or.inl q2052) (Or.inl rfl) (fun v14 => ?_)
  refine xr_dup F dX6_add_17 (xrf_cat _) ?_
  refine xr_gI (r := v14) (ref := "ReserveLedger$Ledger") F dX6_add_18 (C := RX9) (T := TX9) (N := 7) rfl (by decide) (Or.inr ⟨_, q1970⟩) (Or.inl rfl) (fun v18 => ?_)
  refine xr_iload_n 2 F dX6_add_21 rfl ?_
  refine xr_iadd F dX6_add_22 ?_
  refine xr_put (r := v14) (ref := "ReserveLedger$Ledger") F dX6_add_23 xk_22 (by decide) (Or.inr ⟨_, q1970⟩) (Or.inl rfl) (Or.inl rfl) ⟨rfl, rfl⟩ ?_
  exact xr_vret F dX6_add_26
theorem fX23_carryOut_m {l : Launch} {D : xD} {s0 : State} {b0 : Nat} {Γ : Nat → Option Nat} (G : xG l D s0 b0 Γ) (a0 : Nat) (p0 : Option Nat) (p1 : Int32) (p2 : Int32) : xMeth l D s0 Γ yX23_carryOut (Cond.code yX23_carryOut cX23_carryOut 4 none) (2) (34) [.ref a0, va_rf p0, .int p1, .int p2] xeV (fX23_carryOut a0 p0 p1 p2) := by
  refine xMeth.of (lv0 := [(0, va_rf (some a0)), (1, va_rf p0), (2, .int p1), (3, .int p2)]) G (by decide +kernel) (Or.inl rfl) (by simp [lg_sl, xrf_cat, xct_i, xct_l, xct_d, xct_r]) (by simp [lv_args, xrf_cat, xct_i, xct_l, xct_d, xct_r, xrf_some]) (fun x F hnL hRm hmn ht e1 e2 e3 e4 => ?_)
  have hno : ∀ pc, xNo x pc := fun pc z hz => by rw [ht.1 rfl] at hz; cases hz
  unfold fX23_carryOut
  refine xr_aload_n 1 (r := p0) F dX23_carryOut_0 rfl ?_
  refine xr_iload_n 2 F dX23_carryOut_1 rfl ?_
  refine xr_iload_n 3 F dX23_carryOut_2 rfl ?_
  refine xr_ldc F dX23_carryOut_3 q3095 ?_
  refine xr_aload_n 1 (r := p0) F dX23_carryOut_5 rfl ?_
  refine xr_iload_n 2 F dX23_carryOut_6 rfl ?_
  refine xr_VI (y := yX6_cohort) (As := [.int p1]) (r := p0) F (hno _) dX23_carryOut_7 (fun z => fX6_cohort_m (xFG F) z p1) (Or.inl rfl) (ci := 19) (C := RX6) (T := TX6) rfl q2323 q3096 q2321 q2322 (xroom hRm (Nat.le_of_ble_eq_true rfl) (Nat.le_of_ble_eq_true rfl)) ⟨by decide, by decide⟩ n_X6_cohort rfl (xcat (Nat.le_of_ble_eq_true rfl)) (fun v7 => ?_)
  refine xr_isub F dX23_carryOut_10 ?_
  refine xr_SI (y := yJ12_min) (As := [.int p2, .int ((1000000 : Int32) - v7)]) F (hno _) dX23_carryOut_11 (fJ12_min_m (xFG F) p2 ((1000000 : Int32) - v7)) (Or.inl rfl) q345 q135 (Or.inl q3097) q344 (xroom hRm (Nat.le_of_ble_eq_true rfl) (Nat.le_of_ble_eq_true rfl)) ⟨by decide, by decide⟩ n_J12_min rfl (xcat (Nat.le_of_ble_eq_true rfl)) (fun v11 => ?_)
  refine xr_VV (y := yX6_add) (As := [.int p1, .int v11]) (r := p0) F (hno _) dX23_carryOut_14 (fun z => fX6_add_m (xFG F) z p1 v11) (Or.inl rfl) (ci := 19) (C := RX6) (T := TX6) rfl q3101 q3098 q3099 q3100 (xroom hRm (Nat.le_of_ble_eq_true rfl) (Nat.le_of_ble_eq_true rfl)) ⟨by decide, by decide⟩ n_X6_add rfl (xcat (Nat.le_of_ble_eq_true rfl)) (fun _ => ?_)
  exact xr_vret F dX23_carryOut_17
theorem fX6_take_m {l : Launch} {D : xD} {s0 : State} {b0 : Nat} {Γ : Nat → Option Nat} (G : xG l D s0 b0 Γ) (a0 : Nat) (p0 : Int32) (p1 : Int32) : xMeth l D s0 Γ yX6_take (Cond.code yX6_take cX6_take 4 none) (2) (37) [.ref a0, .int p0, .int p1] xeV (fX6_take a0 p0 p1) := by
  refine xMeth.of (lv0 := [(0, va_rf (some a0)), (1, .int p0), (2, .int p1)]) G (by decide +kernel) (Or.inl rfl) (Nat.le_of_ble_eq_true rfl) rfl (fun x F hnL hRm hmn ht e1 e2 e3 e4 => ?_)
  have hno : ∀ pc, xNo x pc := fun pc z hz => by rw [ht.1 rfl] at hz; cases hz
  unfold fX6_take
  refine xr_aload_n 0 (r := (some a0)) F dX6_take_0 rfl ?_
  refine xr_gR (r := (some a0)) (ref := "ReserveLedger$Herd") F dX6_take_1 (C := RX6) (T := TX6) (N := 8) rfl (by decide) (Or.inl q2042) (Or.inl rfl) (fun v1 => ?_)
  refine xr_VI (y := yX10_total) (As := []) (r := v1) F (hno _) dX6_take_4 (fun z => fX10_total_m (xFG F) z) (Or.inl rfl) (ci := 24) (C := RX10) (T := TX10) rfl q1642 q1639 q1640 q1641 (xroom hRm (Nat.le_of_ble_eq_true rfl) (Nat.le_of_ble_eq_true rfl)) ⟨by decide, by decide⟩ n_X10_total rfl (xcat (Nat.le_of_ble_eq_true rfl)) (fun v4 => ?_)
  refine xs_i_n [0, 1, 2] F dX6_take_7 hnL rfl rfl (xk1 rfl rfl (xk1 rfl rfl (xk2 rfl rfl xk0))) ?_
  refine xr_aload_n 1 (r := (some a0)) F dX6_take_8 rfl ?_
  refine xr_gR (r := (some a0)) (ref := "ReserveLedger$Herd") F dX6_take_9 (C := RX6) (T := TX6) (N := 8) rfl (by decide) (Or.inl q2042) (Or.inl rfl) (fun v9 => ?_)
  refine xr_gR (r := v9) (ref := "ReserveLedger$Stock") F dX6_take_12 (C := RX10) (T := TX10) (N := 4) rfl (by decide) (Or.inr ⟨_, q2020⟩) (Or.inl rfl) (fun v12 => ?_)
  refine xr_iload_n 2 F dX6_take_15 rfl ?_
  refine xr_dup2_11 F dX6_take_16 rfl (xrf_cat _) ?_
  refine xr_iald (r := v12) F dX6_take_17 (fun v17 => ?_)
  refine xr_iload_n 3 F dX6_take_18 rfl ?_
  refine xr_isub F dX6_take_19 ?_
  refine xr_iast (r := v12) F dX6_take_20 ?_
  refine xr_aload_n 1 (r := (some a0)) F dX6_take_21 rfl ?_
  refine xr_gR (r := (some a0)) (ref := "ReserveLedger$Herd") F dX6_take_22 (C := RX6) (T := TX6) (N := 8) rfl (by decide) (Or.inl q2052) (Or.inl rfl) (fun v22 => ?_)
  refine xr_dup F dX6_take_25 (xrf_cat _) ?_
  refine xr_gI (r := v22) (ref := "ReserveLedger$Ledger") F dX6_take_26 (C := RX9) (T := TX9) (N := 7) rfl (by decide) (Or.inr ⟨_, q1967⟩) (Or.inl rfl) (fun v26 => ?_)
  refine xr_iload_n 3 F dX6_take_29 rfl ?_
  refine xr_iadd F dX6_take_30 ?_
  refine xr_put (r := v22) (ref := "ReserveLedger$Ledger") F dX6_take_31 xk_22 (by decide) (Or.inr ⟨_, q1967⟩) (Or.inl rfl) (Or.inl rfl) ⟨rfl, rfl⟩ ?_
  refine xr_aload_n 1 (r := (some a0)) F dX6_take_34 rfl ?_
  refine xr_iload_n 0 F dX6_take_35 rfl ?_
  refine xr_iload_n 0 F dX6_take_36 rfl ?_
  refine xr_iload_n 3 F dX6_take_37 rfl ?_
  refine xr_isub F dX6_take_38 ?_
  refine xr_VV (y := yX6_lose) (As := [.int v4, .int (v4 - p1)]) (r := (some a0)) F (hno _) dX6_take_39 (fun z => fX6_lose_m (xFG F) z v4 (v4 - p1)) (Or.inl rfl) (ci := 19) (C := RX6) (T := TX6) rfl q3115 q3112 q3114 qs44 (xroom hRm (Nat.le_of_ble_eq_true rfl) (Nat.le_of_ble_eq_true rfl)) ⟨by decide, by decide⟩ n_X6_lose rfl (xcat (Nat.le_of_ble_eq_true rfl)) (fun _ => ?_)
  exact xr_vret F dX6_take_42
theorem fX24_carryOut_m {l : Launch} {D : xD} {s0 : State} {b0 : Nat} {Γ : Nat → Option Nat} (G : xG l D s0 b0 Γ) (a0 : Nat) (p0 : Option Nat) (p1 : Int32) (p2 : Int32) : xMeth l D s0 Γ yX24_carryOut (Cond.code yX24_carryOut cX24_carryOut 4 none) (3) (60) [.ref a0, va_rf p0, .int p1, .int p2] xeV (fX24_carryOut a0 p0 p1 p2) := by
  refine xMeth.of (lv0 := [(0, va_rf (some a0)), (1, va_rf p0), (2, .int p1), (3, .int p2)]) G (by decide +kernel) (Or.inl rfl) (by simp [lg_sl, xrf_cat, xct_i, xct_l, xct_d, xct_r]) (by simp [lv_args, xrf_cat, xct_i, xct_l, xct_d, xct_r, xrf_some]) (fun x F hnL hRm hmn ht e1 e2 e3 e4 => ?_)
  have hno : ∀ pc, xNo x pc := fun pc z hz => by rw [ht.1 rfl] at hz; cases hz
  unfold fX24_carryOut
  refine xr_aload_n 1 (r := p0) F dX24_carryOut_0 rfl ?_
  refine xr_iload_n 2 F dX24_carryOut_1 rfl ?_
  refine xr_iload_n 3 F dX24_carryOut_2 rfl ?_
  refine xr_aload_n 1 (r := p0) F dX24_carryOut_3 rfl ?_
  refine xr_iload_n 2 F dX24_carryOut_4 rfl ?_
  refine xr_VI (y := yX6_cohort) (As := [.int p1]) (r := p0) F (hno _) dX24_carryOut_5 (fun z => fX6_cohort_m (xFG F) z p1) (Or.inl rfl) (ci := 19) (C := RX6) (T := TX6) rfl q2323 q3105 q2321 q2322 (xroom hRm (Nat.le_of_ble_eq_true rfl) (Nat.le_of_ble_eq_true rfl)) ⟨by decide, by decide⟩ n_X6_cohort rfl (xcat (Nat.le_of_ble_eq_true rfl)) (fun v5 => ?_)
  refine xr_aload_n 1 (r := p0) F dX24_carryOut_8 rfl ?_
  refine xr_VI (y := yX6_left) (As := []) (r := p0) F (hno _) dX24_carryOut_9 (fun z => fX6_left_m (xFG F) z) (Or.inl rfl) (ci := 19) (C := RX6) (T := TX6) rfl q2520 q3106 q2518 q2519 (xroom hRm (Nat.le_of_ble_eq_true rfl) (Nat.le_of_ble_eq_true rfl)) ⟨by decide, by decide⟩ n_X6_left rfl (xcat (Nat.le_of_ble_eq_true rfl)) (fun v9 => ?_)
  refine xr_SI (y := yJ12_min) (As := [.int v5, .int v9]) F (hno _) dX24_carryOut_12 (fJ12_min_m (xFG F) v5 v9) (Or.inl rfl) q345 q135 (Or.inl q3107) q344 (xroom hRm (Nat.le_of_ble_eq_true rfl) (Nat.le_of_ble_eq_true rfl)) ⟨by decide, by decide⟩ n_J12_min rfl (xcat (Nat.le_of_ble_eq_true rfl)) (fun v12 => ?_)
  refine xr_SI (y := yJ12_min) (As := [.int p2, .int v12]) F (hno _) dX24_carryOut_15 (fJ12_min_m (xFG F) p2 v12) (Or.inl rfl) q345 q135 (Or.inl q3107) q344 (xroom hRm (Nat.le_of_ble_eq_true rfl) (Nat.le_of_ble_eq_true rfl)) ⟨by decide, by decide⟩ n_J12_min rfl (xcat (Nat.le_of_ble_eq_true rfl)) (fun v15 => ?_)
  refine xr_VV (y := yX6_take) (As := [.int p1, .int v15]) (r := p0) F (hno _) dX24_carryOut_18 (fun z => fX6_take_m (xFG F) z p1 v15) (Or.inl rfl) (ci := 19) (C := RX6) (T := TX6) rfl q3111 q3108 q3109 q3110 (xroom hRm (Nat.le_of_ble_eq_true rfl) (Nat.le_of_ble_eq_true rfl)) ⟨by decide, by decide⟩ n_X6_take rfl (xcat (Nat.le_of_ble_eq_true rfl)) (fun _ => ?_)
  exact xr_vret F dX24_carryOut_21
theorem fX6_sick_p15_ok {x : xC} (F : xF x RX6 cX6_sick (some .int)) (hnL : xnL x = 8) (hRm : ∃ dc ds, x.2.2.2.1 = { frames := 2, cells := dc, slots := ds, locals := 37 }) (hno : ∀ pc, xNo x pc) (hmn : xmn x = "sick" ∧ xmy x yX6_sick) : ∀ (n : Nat) (l0 : Nat) (l2 : Int32) (l3 : Int32) (l4 : Int32) (l5 : Int32) (l6 : Int32), xI x xeI 15 [(0, va_rf (some l0)), (2, .int l2), (3, .int l3), (4, .int l4), (5, .int l5), (6, .int l6)] [] (fX6_sick_p15 n l0 l2 l3 l4 l5 l6) := by
  intro n
  induction n with
  | zero => intro l0 l2 l3 l4 l5 l6; exact xI.stuck
  | succ n ih =>
    intro l0 l2 l3 l4 l5 l6
    unfold fX6_sick_p15
    refine xr_iload 5 F dX6_sick_15 rfl ?_
    refine xr_iload_n 1 F dX6_sick_17 rfl ?_
    refine xr_icmp_gt 66 F dX6_sick_18 rfl ?_ ?_
    · refine xr_aload_n 0 (r := (some l0)) F dX6_sick_66 rfl ?_
      refine xr_gR (r := (some l0)) (ref := "ReserveLedger$Herd") F dX6_sick_67 (C := RX6) (T := TX6) (N := 8) rfl (by decide) (Or.inl q2052) (Or.inl rfl) (fun v67 => ?_)
      refine xr_dup F dX6_sick_70 (xrf_cat _) ?_
      refine xr_gI (r := v67) (ref := "ReserveLedger$Ledger") F dX6_sick_71 (C := RX9) (T := TX9) (N := 7) rfl (by decide) (Or.inr ⟨_, q1964⟩) (Or.inl rfl) (fun v71 => ?_)
      refine xr_iload 4 F dX6_sick_74 rfl ?_
      refine xr_iadd F dX6_sick_76 ?_
      refine xr_put (r := v67) (ref := "ReserveLedger$Ledger") F dX6_sick_77 xk_22 (by decide) (Or.inr ⟨_, q1964⟩) (Or.inl rfl) (Or.inl rfl) ⟨rfl, rfl⟩ ?_
      refine xr_aload_n 0 (r := (some l0)) F dX6_sick_80 rfl ?_
      refine xr_iload 3 F dX6_sick_81 rfl ?_
      refine xr_iload 3 F dX6_sick_83 rfl ?_
      refine xr_iload 4 F dX6_sick_85 rfl ?_
      refine xr_isub F dX6_sick_87 ?_
      refine xr_VV (y := yX6_lose) (As := [.int l4, .int (l4 - l5)]) (r := (some l0)) F (hno _) dX6_sick_88 (fun z => fX6_lose_m (xFG F) z l4 (l4 - l5)) (Or.inl rfl) (ci := 19) (C := RX6) (T := TX6) rfl q3115 q3112 q3114 qs44 (xroom hRm (Nat.le_of_ble_eq_true rfl) (Nat.le_of_ble_eq_true rfl)) ⟨by decide, by decide⟩ n_X6_lose rfl (xcat (Nat.le_of_ble_eq_true rfl)) (fun _ => ?_)
      refine xr_iload 4 F dX6_sick_91 rfl ?_
      exact xr_iret F dX6_sick_93
    · refine xr_aload_n 0 (r := (some l0)) F dX6_sick_21 rfl ?_
      refine xr_iload 5 F dX6_sick_22 rfl ?_
      refine xr_VI (y := yX6_cohort) (As := [.int l6]) (r := (some l0)) F (hno _) dX6_sick_24 (fun z => fX6_cohort_m (xFG F) z l6) (Or.inl rfl) (ci := 19) (C := RX6) (T := TX6) rfl q2323 q2320 q2321 q2322 (xroom hRm (Nat.le_of_ble_eq_true rfl) (Nat.le_of_ble_eq_true rfl)) ⟨by decide, by decide⟩ n_X6_cohort rfl (xcat (Nat.le_of_ble_eq_true rfl)) (fun v24 => ?_)
      refine xr_i2l F dX6_sick_27 ?_
      refine xr_iload_n 2 F dX6_sick_28 rfl ?_
      refine xr_i2l F dX6_sick_29 ?_
      refine xr_lmul F dX6_sick_30 ?_
      refine xr_ldc2 F dX6_sick_31 q2561 ?_
      refine xr_ldiv F dX6_sick_34 ?_
      refine xr_l2i F dX6_sick_35 ?_
      refine xr_letI (fun x7_36 => ?_)
      refine xs_i [0, 1, 2, 3, 4, 5] F dX6_sick_36 hnL rfl rfl (xk1 rfl rfl (xk1 rfl rfl (xk1 rfl rfl (xk1 rfl rfl (xk1 rfl rfl (xk2 rfl rfl xk0)))))) ?_
      refine xr_aload_n 1 (r := (some l0)) F dX6_sick_38 rfl ?_
      refine xr_gR (r := (some l0)) (ref := "ReserveLedger$Herd") F dX6_sick_39 (C := RX6) (T := TX6) (N := 8) rfl (by decide) (Or.inl q2042) (Or.inl rfl) (fun v39 => ?_)
      refine xr_gR (r := v39) (ref := "ReserveLedger$Stock") F dX6_sick_42 (C := RX10) (T := TX10) (N := 4) rfl (by decide) (Or.inr ⟨_, q2020⟩) (Or.inl rfl) (fun v42 => ?_)
      refine xr_iload 6 F dX6_sick_45 rfl ?_
      refine xr_dup2_11 F dX6_sick_47 rfl (xrf_cat _) ?_
      refine xr_iald (r := v42) F dX6_sick_48 (fun v48 => ?_)
      refine xr_iload 0 F dX6_sick_49 rfl ?_
      refine xr_isub F dX6_sick_51 ?_
      refine xr_iast (r := v42) F dX6_sick_52 ?_
      refine xr_iload 5 F dX6_sick_53 rfl ?_
      refine xr_iload 0 F dX6_sick_55 rfl ?_
      refine xr_iadd F dX6_sick_57 ?_
      refine xr_letI (fun x5_58 => ?_)
      refine xs_i [1, 2, 3, 4, 6] F dX6_sick_58 hnL rfl rfl (xk1 rfl rfl (xk1 rfl rfl (xk1 rfl rfl (xk2 rfl rfl (xk1 rfl rfl xk0))))) ?_
      refine xs_inc [5, 0, 1, 2, 3, 4] F dX6_sick_60 rfl hnL rfl rfl (xk2 rfl rfl (xk1 rfl rfl (xk1 rfl rfl (xk1 rfl rfl (xk1 rfl rfl xk0))))) (fun x6_60 => ?_)
      refine xr_goto 15 F dX6_sick_63 rfl ?_
      exact xI.sub [2, 3, 4, 5, 1, 0] rfl (ih l0 l2 l3 l4 x5_58 x6_60)
theorem fX6_sick_m {l : Launch} {D : xD} {s0 : State} {b0 : Nat} {Γ : Nat → Option Nat} (G : xG l D s0 b0 Γ) (a0 : Nat) (p0 : Int32) (p1 : Int32) (p2 : Int32) : xMeth l D s0 Γ yX6_sick (Cond.code yX6_sick cX6_sick 8 (some .int)) (2) (37) [.ref a0, .int p0, .int p1, .int p2] xeI (fX6_sick a0 p0 p1 p2) := by
  refine xMeth.of (lv0 := [(0, va_rf (some a0)), (1, .int p0), (2, .int p1), (3, .int p2)]) G (by decide +kernel) (Or.inl rfl) (Nat.le_of_ble_eq_true rfl) rfl (fun x F hnL hRm hmn ht e1 e2 e3 e4 => ?_)
  have hno : ∀ pc, xNo x pc := fun pc z hz => by rw [ht.1 rfl] at hz; cases hz
  unfold fX6_sick
  refine xr_aload_n 0 (r := (some a0)) F dX6_sick_0 rfl ?_
  refine xr_gR (r := (some a0)) (ref := "ReserveLedger$Herd") F dX6_sick_1 (C := RX6) (T := TX6) (N := 8) rfl (by decide) (Or.inl q2042) (Or.inl rfl) (fun v1 => ?_)
  refine xr_VI (y := yX10_total) (As := []) (r := v1) F (hno _) dX6_sick_4 (fun z => fX10_total_m (xFG F) z) (Or.inl rfl) (ci := 24) (C := RX10) (T := TX10) rfl q1642 q1639 q1640 q1641 (xroom hRm (Nat.le_of_ble_eq_true rfl) (Nat.le_of_ble_eq_true rfl)) ⟨by decide, by decide⟩ n_X10_total rfl (xcat (Nat.le_of_ble_eq_true rfl)) (fun v4 => ?_)
  refine xs_i [0, 1, 2, 3] F dX6_sick_7 hnL rfl rfl (xk1 rfl rfl (xk1 rfl rfl (xk1 rfl rfl (xk2 rfl rfl xk0)))) ?_
  refine xr_iconst (0 : Int32) F dX6_sick_9 rfl ?_
  refine xr_letI (fun x5_10 => ?_)
  refine xs_i [0, 1, 2, 3, 4] F dX6_sick_10 hnL rfl rfl (xk2 rfl rfl (xk1 rfl rfl (xk1 rfl rfl (xk1 rfl rfl (xk1 rfl rfl xk0))))) ?_
  refine xr_iload_n 3 F dX6_sick_12 rfl ?_
  refine xs_i [0, 1, 2, 4, 5] F dX6_sick_13 hnL rfl rfl (xk2 rfl rfl (xk1 rfl rfl (xk1 rfl rfl (xk1 rfl rfl (xk1 rfl rfl xk0))))) ?_
  exact xI.sub [3, 4, 5, 2, 1, 0] rfl (fX6_sick_p15_ok F hnL hRm hno hmn xFU a0 p1 p2 v4 x5_10 p0)
theorem fX25_carryOut_m {l : Launch} {D : xD} {s0 : State} {b0 : Nat} {Γ : Nat → Option Nat} (G : xG l D s0 b0 Γ) (a0 : Nat) (p0 : Option Nat) (p1 : Int32) (p2 : Int32) : xMeth l D s0 Γ yX25_carryOut (Cond.code yX25_carryOut cX25_carryOut 5 none) (3) (64) [.ref a0, va_rf p0, .int p1, .int p2] xeV (fX25_carryOut a0 p0 p1 p2) := by
  refine xMeth.of (lv0 := [(0, va_rf (some a0)), (1, va_rf p0), (2, .int p1), (3, .int p2)]) G (by decide +kernel) (Or.inl rfl) (by simp [lg_sl, xrf_cat, xct_i, xct_l, xct_d, xct_r]) (by simp [lv_args, xrf_cat, xct_i, xct_l, xct_d, xct_r, xrf_some]) (fun x F hnL hRm hmn ht e1 e2 e3 e4 => ?_)
  have hno : ∀ pc, xNo x pc := fun pc z hz => by rw [ht.1 rfl] at hz; cases hz
  unfold fX25_carryOut
  refine xr_aload_n 1 (r := p0) F dX25_carryOut_0 rfl ?_
  refine xr_iload_n 2 F dX25_carryOut_1 rfl ?_
  refine xr_iload_n 2 F dX25_carryOut_2 rfl ?_
  refine xr_iload_n 3 F dX25_carryOut_3 rfl ?_
  refine xr_VI (y := yX6_sick) (As := [.int p1, .int p1, .int p2]) (r := p0) F (hno _) dX25_carryOut_4 (fun z => fX6_sick_m (xFG F) z p1 p1 p2) (Or.inl rfl) (ci := 19) (C := RX6) (T := TX6) rfl q3122 q3119 q3120 q3121 (xroom hRm (Nat.le_of_ble_eq_true rfl) (Nat.le_of_ble_eq_true rfl)) ⟨by decide, by decide⟩ n_X6_sick rfl (xcat (Nat.le_of_ble_eq_true rfl)) (fun v4 => ?_)
  refine xs_i [] F dX25_carryOut_7 hnL rfl rfl xk0 ?_
  exact xr_vret F dX25_carryOut_9
theorem fJ19_isElementIndex_m {l : Launch} {D : xD} {s0 : State} {b0 : Nat} {Γ : Nat → Option Nat} (G : xG l D s0 b0 Γ) (a0 : Nat) (p0 : Int32) : xMeth l D s0 Γ yJ19_isElementIndex (Cond.code yJ19_isElementIndex cJ19_isElementIndex 2 (some .boolean)) (1) (12) [.ref a0, .int p0] xeI (fJ19_isElementIndex a0 p0) := by
  refine xMeth.of (lv0 := [(0, va_rf (some a0)), (1, .int p0)]) G (by decide +kernel) (Or.inl rfl) (Nat.le_of_ble_eq_true rfl) rfl (fun x F hnL hRm hmn ht e1 e2 e3 e4 => ?_)
  have hno : ∀ pc, xNo x pc := fun pc z hz => by rw [ht.1 rfl] at hz; cases hz
  unfold fJ19_isElementIndex
  refine xr_iload_n 1 F dJ19_isElementIndex_0 rfl ?_
  refine xr_if_lt 16 F dJ19_isElementIndex_1 rfl ?_ ?_
  · refine xr_iconst (0 : Int32) F dJ19_isElementIndex_16 rfl ?_
    exact xr_zret F dJ19_isElementIndex_17 rfl
  · refine xr_iload_n 1 F dJ19_isElementIndex_4 rfl ?_
    refine xr_aload_n 0 (r := (some a0)) F dJ19_isElementIndex_5 rfl ?_
    refine xr_gI (r := (some a0)) (ref := "java/util/LinkedList") F dJ19_isElementIndex_6 (C := RJ19) (T := TJ19) (N := 4) rfl (by decide) (Or.inl q571) (Or.inl rfl) (fun v6 => ?_)
    refine xr_icmp_ge 16 F dJ19_isElementIndex_9 rfl ?_ ?_
    · refine xr_iconst (0 : Int32) F dJ19_isElementIndex_16 rfl ?_
      exact xr_zret F dJ19_isElementIndex_17 rfl
    · refine xr_iconst (1 : Int32) F dJ19_isElementIndex_12 rfl ?_
      refine xr_goto 17 F dJ19_isElementIndex_13 rfl ?_
      exact xr_zret F dJ19_isElementIndex_17 rfl
theorem fJ19_checkElementIndex_m {l : Launch} {D : xD} {s0 : State} {b0 : Nat} {Γ : Nat → Option Nat} (G : xG l D s0 b0 Γ) (a0 : Nat) (p0 : Int32) : xMeth l D s0 Γ yJ19_checkElementIndex (Cond.code yJ19_checkElementIndex cJ19_checkElementIndex 2 none) (2) (33) [.ref a0, .int p0] xeV (fJ19_checkElementIndex a0 p0) := by
  refine xMeth.of (lv0 := [(0, va_rf (some a0)), (1, .int p0)]) G (by decide +kernel) (Or.inl rfl) (Nat.le_of_ble_eq_true rfl) rfl (fun x F hnL hRm hmn ht e1 e2 e3 e4 => ?_)
  have hno : ∀ pc, xNo x pc := fun pc z hz => by rw [ht.1 rfl] at hz; cases hz
  unfold fJ19_checkElementIndex
  refine xr_aload_n 0 (r := (some a0)) F dJ19_checkElementIndex_0 rfl ?_
  refine xr_iload_n 1 F dJ19_checkElementIndex_1 rfl ?_
  refine xr_VI (y := yJ19_isElementIndex) (As := [.int p0]) (r := (some a0)) F (hno _) dJ19_checkElementIndex_2 (fun z => fJ19_isElementIndex_m (xFG F) z p0) (Or.inl rfl) (ci := 6) (C := RJ19) (T := TJ19) rfl q920 q917 q919 qs8 (xroom hRm (Nat.le_of_ble_eq_true rfl) (Nat.le_of_ble_eq_true rfl)) ⟨by decide, by decide⟩ n_J19_isElementIndex rfl (xcat (Nat.le_of_ble_eq_true rfl)) (fun v2 => ?_)
  refine xr_if_ne 21 F dJ19_checkElementIndex_5 rfl ?_ ?_
  · exact xI.stuck
  · exact xr_vret F dJ19_checkElementIndex_21
theorem fJ19_get_m {l : Launch} {D : xD} {s0 : State} {b0 : Nat} {Γ : Nat → Option Nat} (G : xG l D s0 b0 Γ) (a0 : Nat) (p0 : Int32) : xMeth l D s0 Γ yJ19_get (Cond.code yJ19_get cJ19_get 2 (some (.object "java/lang/Object"))) (3) (54) [.ref a0, .int p0] xeR (fJ19_get a0 p0) := by
  refine xMeth.of (lv0 := [(0, va_rf (some a0)), (1, .int p0)]) G (by decide +kernel) (Or.inl rfl) (Nat.le_of_ble_eq_true rfl) rfl (fun x F hnL hRm hmn ht e1 e2 e3 e4 => ?_)
  have hno : ∀ pc, xNo x pc := fun pc z hz => by rw [ht.1 rfl] at hz; cases hz
  unfold fJ19_get
  refine xr_aload_n 0 (r := (some a0)) F dJ19_get_0 rfl ?_
  refine xr_iload_n 1 F dJ19_get_1 rfl ?_
  refine xr_VV (y := yJ19_checkElementIndex) (As := [.int p0]) (r := (some a0)) F (hno _) dJ19_get_2 (fun z => fJ19_checkElementIndex_m (xFG F) z p0) (Or.inl rfl) (ci := 6) (C := RJ19) (T := TJ19) rfl q916 q913 q915 qs7 (xroom hRm (Nat.le_of_ble_eq_true rfl) (Nat.le_of_ble_eq_true rfl)) ⟨by decide, by decide⟩ n_J19_checkElementIndex rfl (xcat (Nat.le_of_ble_eq_true rfl)) (fun _ => ?_)
  refine xr_aload_n 0 (r := (some a0)) F dJ19_get_5 rfl ?_
  refine xr_iload_n 1 F dJ19_get_6 rfl ?_
  refine xr_VR (y := yJ19_node) (As := [.int p0]) (r := (some a0)) F (hno _) dJ19_get_7 (fun z => fJ19_node_m (xFG F) z p0) (Or.inl rfl) (ci := 6) (C := RJ19) (T := TJ19) rfl q805 q921 q803 q804 (xroom hRm (Nat.le_of_ble_eq_true rfl) (Nat.le_of_ble_eq_true rfl)) ⟨by decide, by decide⟩ n_J19_node rfl (xcat (Nat.le_of_ble_eq_true rfl)) (fun v7 => ?_)
  refine xr_gR (r := v7) (ref := "java/util/LinkedList$Node") F dJ19_get_10 (C := RJ30) (T := TJ30) (N := 3) rfl (by decide) (Or.inl q2124) (Or.inl rfl) (fun v10 => ?_)
  exact xr_aret (v := v10) F dJ19_get_13 (Or.inl ⟨_, rfl⟩)
theorem fJ19_unlink_p64_ok {x : xC} (F : xF x RJ19 cJ19_unlink (some (.object "java/lang/Object"))) (hnL : xnL x = 5) (hRm : ∃ dc ds, x.2.2.2.1 = { frames := 1, cells := dc, slots := ds, locals := 12 }) (hno : ∀ pc, xNo x pc) (hmn : xmn x = "unlink" ∧ xmy x yJ19_unlink) (l0 : Nat) (l1 : Option Nat) (l2 : Option Nat) : xI x xeR 64 [(0, va_rf (some l0)), (1, va_rf l1), (2, va_rf l2)] [] (fJ19_unlink_p64 l0 l1 l2) := by
  unfold fJ19_unlink_p64
  refine xr_aload_n 1 (r := l1) F dJ19_unlink_64 rfl ?_
  refine xr_null F dJ19_unlink_65 ?_
  refine xr_put (r := l1) (ref := "java/util/LinkedList$Node") F dJ19_unlink_66 xk_25 (by decide) (Or.inl q2124) (Or.inl rfl) (Or.inl rfl) (xr_rf _ _) ?_
  refine xr_aload_n 0 (r := (some l0)) F dJ19_unlink_69 rfl ?_
  refine xr_dup F dJ19_unlink_70 (xrf_cat _) ?_
  refine xr_gI (r := (some l0)) (ref := "java/util/LinkedList") F dJ19_unlink_71 (C := RJ19) (T := TJ19) (N := 4) rfl (by decide) (Or.inl q571) (Or.inl rfl) (fun v71 => ?_)
  refine xr_iconst (1 : Int32) F dJ19_unlink_74 rfl ?_
  refine xr_isub F dJ19_unlink_75 ?_
  refine xr_put (r := (some l0)) (ref := "java/util/LinkedList") F dJ19_unlink_76 xk_6 (by decide) (Or.inl q571) (Or.inl rfl) (Or.inl rfl) ⟨rfl, rfl⟩ ?_
  refine xr_aload_n 0 (r := (some l0)) F dJ19_unlink_79 rfl ?_
  refine xr_dup F dJ19_unlink_80 (xrf_cat _) ?_
  refine xr_gI (r := (some l0)) (ref := "java/util/LinkedList") F dJ19_unlink_81 (C := RJ19) (T := TJ19) (N := 4) rfl (by decide) (Or.inl q553) (Or.inr q549) (fun v81 => ?_)
  refine xr_iconst (1 : Int32) F dJ19_unlink_84 rfl ?_
  refine xr_iadd F dJ19_unlink_85 ?_
  refine xr_put (r := (some l0)) (ref := "java/util/LinkedList") F dJ19_unlink_86 xk_6 (by decide) (Or.inl q553) (Or.inr q549) (Or.inl rfl) ⟨rfl, rfl⟩ ?_
  refine xr_aload_n 2 (r := l2) F dJ19_unlink_89 rfl ?_
  exact xr_aret (v := l2) F dJ19_unlink_90 (Or.inl ⟨_, rfl⟩)
theorem fJ19_unlink_p40_ok {x : xC} (F : xF x RJ19 cJ19_unlink (some (.object "java/lang/Object"))) (hnL : xnL x = 5) (hRm : ∃ dc ds, x.2.2.2.1 = { frames := 1, cells := dc, slots := ds, locals := 12 }) (hno : ∀ pc, xNo x pc) (hmn : xmn x = "unlink" ∧ xmy x yJ19_unlink) (l0 : Nat) (l1 : Option Nat) (l2 : Option Nat) (l3 : Option Nat) (l4 : Option Nat) : xI x xeR 40 [(0, va_rf (some l0)), (1, va_rf l1), (2, va_rf l2), (3, va_rf l3), (4, va_rf l4)] [] (fJ19_unlink_p40 l0 l1 l2 l3 l4) := by
  unfold fJ19_unlink_p40
  refine xr_aload_n 3 (r := l3) F dJ19_unlink_40 rfl ?_
  refine xr_ifnonnull 53 F dJ19_unlink_41 rfl ?_ ?_
  · refine xr_aload_n 0 (r := (some l0)) F dJ19_unlink_44 rfl ?_
    refine xr_aload 4 (r := l4) F dJ19_unlink_45 rfl ?_
    refine xr_put (r := (some l0)) (ref := "java/util/LinkedList") F dJ19_unlink_47 xk_6 (by decide) (Or.inl q574) (Or.inl rfl) (Or.inl rfl) (xr_rf _ _) ?_
    refine xr_goto 64 F dJ19_unlink_50 rfl ?_
    exact xI.sub [0, 1, 2] rfl (fJ19_unlink_p64_ok F hnL hRm hno hmn l0 l1 l2)
  · refine xr_aload_n 3 (r := l3) F dJ19_unlink_53 rfl ?_
    refine xr_aload 4 (r := l4) F dJ19_unlink_54 rfl ?_
    refine xr_put (r := l3) (ref := "java/util/LinkedList$Node") F dJ19_unlink_56 xk_25 (by decide) (Or.inl q2129) (Or.inl rfl) (Or.inl rfl) (xr_rf _ _) ?_
    refine xr_aload_n 1 (r := l1) F dJ19_unlink_59 rfl ?_
    refine xr_null F dJ19_unlink_60 ?_
    refine xr_put (r := l1) (ref := "java/util/LinkedList$Node") F dJ19_unlink_61 xk_25 (by decide) (Or.inl q2127) (Or.inl rfl) (Or.inl rfl) (xr_rf _ _) ?_
    exact xI.sub [0, 1, 2] rfl (fJ19_unlink_p64_ok F hnL hRm hno hmn l0 l1 l2)
theorem fJ19_unlink_m {l : Launch} {D : xD} {s0 : State} {b0 : Nat} {Γ : Nat → Option Nat} (G : xG l D s0 b0 Γ) (a0 : Nat) (p0 : Option Nat) : xMeth l D s0 Γ yJ19_unlink (Cond.code yJ19_unlink cJ19_unlink 5 (some (.object "java/lang/Object"))) (1) (12) [.ref a0, va_rf p0] xeR (fJ19_unlink a0 p0) := by
  refine xMeth.of (lv0 := [(0, va_rf (some a0)), (1, va_rf p0)]) G (by decide +kernel) (Or.inl rfl) (by simp [lg_sl, xrf_cat, xct_i, xct_l, xct_d, xct_r]) (by simp [lv_args, xrf_cat, xct_i, xct_l, xct_d, xct_r, xrf_some]) (fun x F hnL hRm hmn ht e1 e2 e3 e4 => ?_)
  have hno : ∀ pc, xNo x pc := fun pc z hz => by rw [ht.1 rfl] at hz; cases hz
  unfold fJ19_unlink
  refine xr_aload_n 1 (r := p0) F dJ19_unlink_0 rfl ?_
  refine xr_gR (r := p0) (ref := "java/util/LinkedList$Node") F dJ19_unlink_1 (C := RJ30) (T := TJ30) (N := 3) rfl (by decide) (Or.inl q2124) (Or.inl rfl) (fun v1 => ?_)
  refine xs_a_n [0, 1] F dJ19_unlink_4 hnL rfl rfl (xk1 rfl rfl (xk2 rfl (xrf_cat _) xk0)) ?_
  refine xr_aload_n 2 (r := p0) F dJ19_unlink_5 rfl ?_
  refine xr_gR (r := p0) (ref := "java/util/LinkedList$Node") F dJ19_unlink_6 (C := RJ30) (T := TJ30) (N := 3) rfl (by decide) (Or.inl q2127) (Or.inl rfl) (fun v6 => ?_)
  refine xs_a_n [0, 1, 2] F dJ19_unlink_9 hnL rfl rfl (xk2 rfl (xrf_cat _) (xk1 rfl rfl (xk1 rfl rfl xk0))) ?_
  refine xr_aload_n 3 (r := p0) F dJ19_unlink_10 rfl ?_
  refine xr_gR (r := p0) (ref := "java/util/LinkedList$Node") F dJ19_unlink_11 (C := RJ30) (T := TJ30) (N := 3) rfl (by decide) (Or.inl q2129) (Or.inl rfl) (fun v11 => ?_)
  refine xs_a [0, 1, 2, 3] F dJ19_unlink_14 hnL rfl rfl (xk2 rfl (xrf_cat _) (xk1 rfl rfl (xk1 rfl rfl (xk1 rfl rfl xk0)))) ?_
  refine xr_aload 0 (r := v11) F dJ19_unlink_16 rfl ?_
  refine xr_ifnonnull 29 F dJ19_unlink_18 rfl ?_ ?_
  · refine xr_aload_n 3 (r := (some a0)) F dJ19_unlink_21 rfl ?_
    refine xr_aload_n 1 (r := v6) F dJ19_unlink_22 rfl ?_
    refine xr_put (r := (some a0)) (ref := "java/util/LinkedList") F dJ19_unlink_23 xk_6 (by decide) (Or.inl q573) (Or.inl rfl) (Or.inl rfl) (xr_rf _ _) ?_
    refine xr_goto 40 F dJ19_unlink_26 rfl ?_
    exact xI.sub [3, 4, 2, 1, 0] rfl (fJ19_unlink_p40_ok F hnL hRm hno hmn a0 p0 v1 v6 v11)
  · refine xr_aload 0 (r := v11) F dJ19_unlink_29 rfl ?_
    refine xr_aload_n 1 (r := v6) F dJ19_unlink_31 rfl ?_
    refine xr_put (r := v11) (ref := "java/util/LinkedList$Node") F dJ19_unlink_32 xk_25 (by decide) (Or.inl q2127) (Or.inl rfl) (Or.inl rfl) (xr_rf _ _) ?_
    refine xr_aload_n 4 (r := p0) F dJ19_unlink_35 rfl ?_
    refine xr_null F dJ19_unlink_36 ?_
    refine xr_put (r := p0) (ref := "java/util/LinkedList$Node") F dJ19_unlink_37 xk_25 (by decide) (Or.inl q2129) (Or.inl rfl) (Or.inl rfl) (xr_rf _ _) ?_
    exact xI.sub [3, 4, 2, 1, 0] rfl (fJ19_unlink_p40_ok F hnL hRm hno hmn a0 p0 v1 v6 v11)
theorem fJ19_remove_m {l : Launch} {D : xD} {s0 : State} {b0 : Nat} {Γ : Nat → Option Nat} (G : xG l D s0 b0 Γ) (a0 : Nat) (p0 : Int32) : xMeth l D s0 Γ yJ19_remove (Cond.code yJ19_remove cJ19_remove 2 (some (.object "java/lang/Object"))) (3) (54) [.ref a0, .int p0] xeR (fJ19_remove a0 p0) := by
  refine xMeth.of (lv0 := [(0, va_rf (some a0)), (1, .int p0)]) G (by decide +kernel) (Or.inl rfl) (Nat.le_of_ble_eq_true rfl) rfl (fun x F hnL hRm hmn ht e1 e2 e3 e4 => ?_)
  have hno : ∀ pc, xNo x pc := fun pc z hz => by rw [ht.1 rfl] at hz; cases hz
  unfold fJ19_remove
  refine xr_aload_n 0 (r := (some a0)) F dJ19_remove_0 rfl ?_
  refine xr_iload_n 1 F dJ19_remove_1 rfl ?_
  refine xr_VV (y := yJ19_checkElementIndex) (As := [.int p0]) (r := (some a0)) F (hno _) dJ19_remove_2 (fun z => fJ19_checkElementIndex_m (xFG F) z p0) (Or.inl rfl) (ci := 6) (C := RJ19) (T := TJ19) rfl q916 q913 q915 qs7 (xroom hRm (Nat.le_of_ble_eq_true rfl) (Nat.le_of_ble_eq_true rfl)) ⟨by decide, by decide⟩ n_J19_checkElementIndex rfl (xcat (Nat.le_of_ble_eq_true rfl)) (fun _ => ?_)
  refine xr_aload_n 0 (r := (some a0)) F dJ19_remove_5 rfl ?_
  refine xr_aload_n 0 (r := (some a0)) F dJ19_remove_6 rfl ?_
  refine xr_iload_n 1 F dJ19_remove_7 rfl ?_
  refine xr_VR (y := yJ19_node) (As := [.int p0]) (r := (some a0)) F (hno _) dJ19_remove_8 (fun z => fJ19_node_m (xFG F) z p0) (Or.inl rfl) (ci := 6) (C := RJ19) (T := TJ19) rfl q805 q921 q803 q804 (xroom hRm (Nat.le_of_ble_eq_true rfl) (Nat.le_of_ble_eq_true rfl)) ⟨by decide, by decide⟩ n_J19_node rfl (xcat (Nat.le_of_ble_eq_true rfl)) (fun v8 => ?_)
  refine xr_VR (y := yJ19_unlink) (As := [va_rf v8]) (r := (some a0)) F (hno _) dJ19_remove_11 (fun z => fJ19_unlink_m (xFG F) z v8) (Or.inl rfl) (ci := 6) (C := RJ19) (T := TJ19) rfl q3135 q3132 q3133 q3134 (xroom hRm (Nat.le_of_ble_eq_true rfl) (Nat.le_of_ble_eq_true rfl)) ⟨by decide, by decide⟩ n_J19_unlink rfl (xcat (Nat.le_of_ble_eq_true rfl)) (fun v11 => ?_)
  exact xr_aret (v := v11) F dJ19_remove_14 (Or.inl ⟨_, rfl⟩)
theorem fX2_drop_p2_ok {x : xC} (F : xF x RX2 cX2_drop none) (hnL : xnL x = 4) (hRm : ∃ dc ds, x.2.2.2.1 = { frames := 4, cells := dc, slots := ds, locals := 75 }) (hno : ∀ pc, xNo x pc) (hmn : xmn x = "drop" ∧ xmy x yX2_drop) : ∀ (n : Nat) (l0 : Nat) (l1 : Option Nat) (l2 : Int32), xI x xeV 2 [(0, va_rf (some l0)), (1, va_rf l1), (2, .int l2)] [] (fX2_drop_p2 n l0 l1 l2) := by
  intro n
  induction n with
  | zero => intro l0 l1 l2; exact xI.stuck
  | succ n ih =>
    intro l0 l1 l2
    unfold fX2_drop_p2
    refine xr_aload_n 0 (r := (some l0)) F dX2_drop_2 rfl ?_
    refine xr_gR (r := (some l0)) (ref := "ReserveLedger$State") F dX2_drop_3 (C := RX2) (T := TX2) (N := 5) rfl (by decide) (Or.inl q586) (Or.inl rfl) (fun v3 => ?_)
    refine xr_iload_n 2 F dX2_drop_6 rfl ?_
    refine xr_VR (y := yJ19_get) (As := [.int l2]) (r := v3) F (hno _) dX2_drop_7 (fun z => fJ19_get_m (xFG F) z l2) (Or.inl rfl) (ci := 6) (C := RJ19) (T := TJ19) rfl q912 q3127 q911 q4001 (xroom hRm (Nat.le_of_ble_eq_true rfl) (Nat.le_of_ble_eq_true rfl)) ⟨by decide, by decide⟩ n_J19_get rfl (xcat (Nat.le_of_ble_eq_true rfl)) (fun v7 => ?_)
    refine xr_aload_n 1 (r := l1) F dX2_drop_10 rfl ?_
    refine xr_acmp_eq 20 F dX2_drop_11 rfl ?_ ?_
    · refine xr_aload_n 0 (r := (some l0)) F dX2_drop_20 rfl ?_
      refine xr_gR (r := (some l0)) (ref := "ReserveLedger$State") F dX2_drop_21 (C := RX2) (T := TX2) (N := 5) rfl (by decide) (Or.inl q586) (Or.inl rfl) (fun v21 => ?_)
      refine xr_iload_n 2 F dX2_drop_24 rfl ?_
      refine xr_VR (y := yJ19_remove) (As := [.int l2]) (r := v21) F (hno _) dX2_drop_25 (fun z => fJ19_remove_m (xFG F) z l2) (Or.inl rfl) (ci := 6) (C := RJ19) (T := TJ19) rfl q3131 q3128 q3129 q3130 (xroom hRm (Nat.le_of_ble_eq_true rfl) (Nat.le_of_ble_eq_true rfl)) ⟨by decide, by decide⟩ n_J19_remove rfl (xcat (Nat.le_of_ble_eq_true rfl)) (fun v25 => ?_)
      refine xr_castE (ci := 38) (r := v25) F dX2_drop_28 q2859 rfl ?_
      refine xs_a_n [] F dX2_drop_31 hnL rfl rfl xk0 ?_
      exact xr_vret F dX2_drop_32
    · refine xs_inc [2, 0, 1] F dX2_drop_14 rfl hnL rfl rfl (xk1 rfl rfl (xk2 rfl (xrf_cat _) xk0)) (fun x2_14 => ?_)
      refine xr_goto 2 F dX2_drop_17 rfl ?_
      exact xI.sub [1, 2, 0] rfl (ih l0 l1 x2_14)
theorem fX2_drop_m {l : Launch} {D : xD} {s0 : State} {b0 : Nat} {Γ : Nat → Option Nat} (G : xG l D s0 b0 Γ) (a0 : Nat) (p0 : Option Nat) : xMeth l D s0 Γ yX2_drop (Cond.code yX2_drop cX2_drop 4 none) (4) (75) [.ref a0, va_rf p0] xeV (fX2_drop a0 p0) := by
  refine xMeth.of (lv0 := [(0, va_rf (some a0)), (1, va_rf p0)]) G (by decide +kernel) (Or.inl rfl) (by simp [lg_sl, xrf_cat, xct_i, xct_l, xct_d, xct_r]) (by simp [lv_args, xrf_cat, xct_i, xct_l, xct_d, xct_r, xrf_some]) (fun x F hnL hRm hmn ht e1 e2 e3 e4 => ?_)
  have hno : ∀ pc, xNo x pc := fun pc z hz => by rw [ht.1 rfl] at hz; cases hz
  unfold fX2_drop
  refine xr_iconst (0 : Int32) F dX2_drop_0 rfl ?_
  refine xr_letI (fun x2_1 => ?_)
  refine xs_i_n [0, 1] F dX2_drop_1 hnL rfl rfl (xk1 rfl rfl (xk2 rfl (xrf_cat _) xk0)) ?_
  exact xI.sub [1, 2, 0] rfl (fX2_drop_p2_ok F hnL hRm hno hmn xFU a0 p0 x2_1)
theorem fX2_close_p91_ok {x : xC} (F : xF x RX2 cX2_close (some .int)) (hnL : xnL x = 5) (hRm : ∃ dc ds, x.2.2.2.1 = { frames := 5005, cells := dc, slots := ds, locals := 112104 }) (hno : ∀ pc, xNo x pc) (hmn : xmn x = "close" ∧ xmy x yX2_close) : ∀ (n : Nat) (l0 : Nat) (l2 : Int32) (l3 : Option Nat), xI x xeI 91 [(0, va_rf (some l0)), (2, .int l2), (3, va_rf l3)] [] (fX2_close_p91 n l0 l2 l3) := by
  intro n
  induction n with
  | zero => intro l0 l2 l3; exact xI.stuck
  | succ n ih =>
    intro l0 l2 l3
    unfold fX2_close_p91
    refine xr_aload_n 2 (r := l3) F dX2_close_91 rfl ?_
    refine xr_FI (x0 := ⟨"java/util/Iterator", "hasNext", "()Z"⟩) (y := yJ20_hasNext) (As := []) (r := l3) F (hno _) dX2_close_92 (fun z => fJ20_hasNext_m (xFG F) z) rfl (ci := 7) (C := RJ20) (T := TJ20) rfl q853 q2856 q851 q849 q826 q825 q852 q850 q848 (xroom hRm (Nat.le_of_ble_eq_true rfl) (Nat.le_of_ble_eq_true rfl)) ⟨by decide, by decide⟩ n_J20_hasNext rfl (xcat (Nat.le_of_ble_eq_true rfl)) (fun v92 => ?_)
    refine xr_if_eq 123 F dX2_close_97 rfl ?_ ?_
    · refine xr_aload_n 0 (r := (some l0)) F dX2_close_123 rfl ?_
      refine xr_dup F dX2_close_124 (xrf_cat _) ?_
      refine xr_gI (r := (some l0)) (ref := "ReserveLedger$State") F dX2_close_125 (C := RX2) (T := TX2) (N := 5) rfl (by decide) (Or.inl q588) (Or.inl rfl) (fun v125 => ?_)
      refine xr_iconst (1 : Int32) F dX2_close_128 rfl ?_
      refine xr_iadd F dX2_close_129 ?_
      refine xr_put (r := (some l0)) (ref := "ReserveLedger$State") F dX2_close_130 xk_1 (by decide) (Or.inl q588) (Or.inl rfl) (Or.inl rfl) ⟨rfl, rfl⟩ ?_
      refine xr_aload_n 0 (r := (some l0)) F dX2_close_133 rfl ?_
      refine xr_dup F dX2_close_134 (xrf_cat _) ?_
      refine xr_gI (r := (some l0)) (ref := "ReserveLedger$State") F dX2_close_135 (C := RX2) (T := TX2) (N := 5) rfl (by decide) (Or.inl q591) (Or.inl rfl) (fun v135 => ?_)
      refine xr_iconst (1 : Int32) F dX2_close_138 rfl ?_
      refine xr_iadd F dX2_close_139 ?_
      refine xr_put (r := (some l0)) (ref := "ReserveLedger$State") F dX2_close_140 xk_1 (by decide) (Or.inl q591) (Or.inl rfl) (Or.inl rfl) ⟨rfl, rfl⟩ ?_
      refine xr_iload_n 1 F dX2_close_143 rfl ?_
      exact xr_iret F dX2_close_144
    · refine xr_aload_n 2 (r := l3) F dX2_close_100 rfl ?_
      refine xr_FR (x0 := ⟨"java/util/Iterator", "next", "()Ljava/lang/Object;"⟩) (y := yJ20_next) (As := []) (r := l3) F (hno _) dX2_close_101 (fun z => fJ20_next_m (xFG F) z) rfl (ci := 7) (C := RJ20) (T := TJ20) rfl q1075 q2858 q1073 q1071 q885 q884 q1074 q1072 q848 (xroom hRm (Nat.le_of_ble_eq_true rfl) (Nat.le_of_ble_eq_true rfl)) ⟨by decide, by decide⟩ n_J20_next rfl (xcat (Nat.le_of_ble_eq_true rfl)) (fun v101 => ?_)
      refine xr_castE (ci := 19) (r := v101) F dX2_close_106 q3033 rfl ?_
      refine xs_a [0, 1, 2] F dX2_close_109 hnL rfl rfl (xk1 rfl rfl (xk1 rfl rfl (xk2 rfl (xrf_cat _) xk0))) ?_
      refine xr_aload 0 (r := v101) F dX2_close_111 rfl ?_
      refine xr_aload_n 1 (r := (some l0)) F dX2_close_113 rfl ?_
      refine xr_gI (r := (some l0)) (ref := "ReserveLedger$State") F dX2_close_114 (C := RX2) (T := TX2) (N := 5) rfl (by decide) (Or.inl q588) (Or.inl rfl) (fun v114 => ?_)
      refine xr_VV (y := yX6_close) (As := [.int v114]) (r := v101) F (hno _) dX2_close_117 (fun z => fX6_close_m (xFG F) z v114) (Or.inl rfl) (ci := 19) (C := RX6) (T := TX6) rfl q3139 q3136 q3137 q3138 (xroom hRm (Nat.le_of_ble_eq_true rfl) (Nat.le_of_ble_eq_true rfl)) ⟨by decide, by decide⟩ n_X6_close rfl (xcat (Nat.le_of_ble_eq_true rfl)) (fun _ => ?_)
      refine xr_goto 91 F dX2_close_120 rfl ?_
      exact xI.sub [1, 2, 3] rfl (ih l0 l2 l3)
theorem fX2_close_p81_ok {x : xC} (F : xF x RX2 cX2_close (some .int)) (hnL : xnL x = 5) (hRm : ∃ dc ds, x.2.2.2.1 = { frames := 5005, cells := dc, slots := ds, locals := 112104 }) (hno : ∀ pc, xNo x pc) (hmn : xmn x = "close" ∧ xmy x yX2_close) (l0 : Nat) (l2 : Int32) : xI x xeI 81 [(0, va_rf (some l0)), (2, .int l2)] [] (fX2_close_p81 l0 l2) := by
  unfold fX2_close_p81
  refine xr_aload_n 0 (r := (some l0)) F dX2_close_81 rfl ?_
  refine xr_gR (r := (some l0)) (ref := "ReserveLedger$State") F dX2_close_82 (C := RX2) (T := TX2) (N := 5) rfl (by decide) (Or.inl q583) (Or.inl rfl) (fun v82 => ?_)
  refine xr_FR (x0 := ⟨"java/util/List", "iterator", "()Ljava/util/Iterator;"⟩) (y := yJ2_iterator) (As := []) (r := v82) F (hno _) dX2_close_85 (fun z => fJ2_iterator_m (xFG F) z) rfl (ci := 2) (C := RJ2) (T := TJ2) rfl q693 q3032 q691 q689 q687 q686 q692 q690 q688 (xroom hRm (Nat.le_of_ble_eq_true rfl) (Nat.le_of_ble_eq_true rfl)) ⟨by decide, by decide⟩ n_J2_iterator rfl (xcat (Nat.le_of_ble_eq_true rfl)) (fun v85 => ?_)
  refine xs_a_n [0, 1] F dX2_close_90 hnL rfl rfl (xk1 rfl rfl (xk2 rfl rfl xk0)) ?_
  exact xI.sub [1, 2, 0] rfl (fX2_close_p91_ok F hnL hRm hno hmn xFU l0 l2 v85)
theorem fX2_close_p7_ok {x : xC} (F : xF x RX2 cX2_close (some .int)) (hnL : xnL x = 5) (hRm : ∃ dc ds, x.2.2.2.1 = { frames := 5005, cells := dc, slots := ds, locals := 112104 }) (hno : ∀ pc, xNo x pc) (hmn : xmn x = "close" ∧ xmy x yX2_close) : ∀ (n : Nat) (l0 : Nat) (l1 : Option Nat) (l2 : Int32), xI x xeI 7 [(0, va_rf (some l0)), (1, va_rf l1), (2, .int l2)] [] (fX2_close_p7 n l0 l1 l2) := by
  intro n
  induction n with
  | zero => intro l0 l1 l2; exact xI.stuck
  | succ n ih =>
    intro l0 l1 l2
    unfold fX2_close_p7
    refine xr_aload_n 1 (r := l1) F dX2_close_7 rfl ?_
    refine xr_UI (x0 := ⟨"java/util/PriorityQueue", "isEmpty", "()Z"⟩) (y := yJ0_isEmpty) (As := []) (r := l1) F (hno _) dX2_close_8 (fun z => fJ0_isEmpty__J45_m (xFG F) z) rfl (ci := 33) (C := RJ45) (T := TJ45) rfl q1652 q2889 q1651 q2891 q2890 (Or.inr q1649) (xroom hRm (Nat.le_of_ble_eq_true rfl) (Nat.le_of_ble_eq_true rfl)) ⟨by decide, by decide⟩ n_J0_isEmpty rfl (xcat (Nat.le_of_ble_eq_true rfl)) (fun v8 => ?_)
    refine xr_if_ne 81 F dX2_close_11 rfl ?_ ?_
    · refine xr_aload_n 1 (r := l1) F dX2_close_14 rfl ?_
      refine xr_VR (y := yJ45_peek) (As := []) (r := l1) F (hno _) dX2_close_15 (fun z => fJ45_peek_m (xFG F) z) (Or.inl rfl) (ci := 33) (C := RJ45) (T := TJ45) rfl q3086 q3083 q3084 q3085 (xroom hRm (Nat.le_of_ble_eq_true rfl) (Nat.le_of_ble_eq_true rfl)) ⟨by decide, by decide⟩ n_J45_peek rfl (xcat (Nat.le_of_ble_eq_true rfl)) (fun v15 => ?_)
      refine xr_castE (ci := 38) (r := v15) F dX2_close_18 q2859 rfl ?_
      refine xr_gI (r := v15) (ref := "ReserveLedger$Plan") F dX2_close_21 (C := RX18) (T := TX18) (N := 6) rfl (by decide) (Or.inr ⟨_, q3297⟩) (Or.inl rfl) (fun v21 => ?_)
      refine xr_aload_n 0 (r := (some l0)) F dX2_close_24 rfl ?_
      refine xr_gI (r := (some l0)) (ref := "ReserveLedger$State") F dX2_close_25 (C := RX2) (T := TX2) (N := 5) rfl (by decide) (Or.inl q588) (Or.inl rfl) (fun v25 => ?_)
      refine xr_icmp_ne 81 F dX2_close_28 rfl ?_ ?_
      · refine xr_aload_n 1 (r := l1) F dX2_close_31 rfl ?_
        refine xr_VR (y := yJ45_poll) (As := []) (r := l1) F (hno _) dX2_close_32 (fun z => fJ45_poll_m (xFG F) z) (Or.inl rfl) (ci := 33) (C := RJ45) (T := TJ45) rfl q2895 q2892 q2893 q2894 (xroom hRm (Nat.le_of_ble_eq_true rfl) (Nat.le_of_ble_eq_true rfl)) ⟨by decide, by decide⟩ n_J45_poll rfl (xcat (Nat.le_of_ble_eq_true rfl)) (fun v32 => ?_)
        refine xr_castE (ci := 38) (r := v32) F dX2_close_35 q2859 rfl ?_
        refine xs_a_n [0, 1, 2] F dX2_close_38 hnL rfl rfl (xk1 rfl rfl (xk1 rfl rfl (xk2 rfl rfl xk0))) ?_
        refine xr_aload_n 0 (r := v32) F dX2_close_39 rfl ?_
        refine xr_gR (r := v32) (ref := "ReserveLedger$Plan") F dX2_close_40 (C := RX18) (T := TX18) (N := 6) rfl (by decide) (Or.inr ⟨_, q3299⟩) (Or.inl rfl) (fun v40 => ?_)
        refine xr_aload_n 1 (r := (some l0)) F dX2_close_43 rfl ?_
        refine xr_gR (r := (some l0)) (ref := "ReserveLedger$State") F dX2_close_44 (C := RX2) (T := TX2) (N := 5) rfl (by decide) (Or.inl q583) (Or.inl rfl) (fun v44 => ?_)
        refine xr_aload_n 0 (r := v32) F dX2_close_47 rfl ?_
        refine xr_gI (r := v32) (ref := "ReserveLedger$Plan") F dX2_close_48 (C := RX18) (T := TX18) (N := 6) rfl (by decide) (Or.inr ⟨_, q3301⟩) (Or.inl rfl) (fun v48 => ?_)
        refine xr_FR (x0 := ⟨"java/util/List", "get", "(I)Ljava/lang/Object;"⟩) (y := yJ2_get) (As := [.int v48]) (r := v44) F (hno _) dX2_close_51 (fun z => fJ2_get_m (xFG F) z v48) rfl (ci := 2) (C := RJ2) (T := TJ2) rfl q901 q3088 q900 q2153 q2152 q2151 q2155 q2154 q688 (xroom hRm (Nat.le_of_ble_eq_true rfl) (Nat.le_of_ble_eq_true rfl)) ⟨by decide, by decide⟩ n_J2_get rfl (xcat (Nat.le_of_ble_eq_true rfl)) (fun v51 => ?_)
        refine xr_castE (ci := 19) (r := v51) F dX2_close_56 q3033 rfl ?_
        refine xr_aload_n 0 (r := v32) F dX2_close_59 rfl ?_
        refine xr_gI (r := v32) (ref := "ReserveLedger$Plan") F dX2_close_60 (C := RX18) (T := TX18) (N := 6) rfl (by decide) (Or.inr ⟨_, q3303⟩) (Or.inl rfl) (fun v60 => ?_)
        refine xr_aload_n 0 (r := v32) F dX2_close_63 rfl ?_
        refine xr_gI (r := v32) (ref := "ReserveLedger$Plan") F dX2_close_64 (C := RX18) (T := TX18) (N := 6) rfl (by decide) (Or.inr ⟨_, q3305⟩) (Or.inl rfl) (fun v64 => ?_)
        refine xI.alt2 (Kp := ∀ (_u : Unit), xI x xeI 70 [(3, va_rf v32), (0, va_rf (some l0)), (1, va_rf l1), (2, .int l2)] [] _) ?_ (fun hK => xr_UV (x0 := ⟨"ReserveLedger$Kind", "carryOut", "(LReserveLedger$Herd;II)V"⟩) (y := yX23_carryOut) (As := [va_rf v51, .int v60, .int v64]) (r := v40) F (hno _) dX2_close_67 (fun z => fX23_carryOut_m (xFG F) z v51 v60 v64) rfl (ci := 50) (C := RX23) (T := TX23) rfl q3094 q3089 q3093 q3092 q3091 (Or.inr q3090) (xroom hRm (Nat.le_of_ble_eq_true rfl) (Nat.le_of_ble_eq_true rfl)) ⟨by decide, by decide⟩ n_X23_carryOut rfl (xcat (Nat.le_of_ble_eq_true rfl)) hK) (fun hK => (xI.alt2 hK (fun hK => xr_UV (x0 := ⟨"ReserveLedger$Kind", "carryOut", "(LReserveLedger$Herd;II)V"⟩) (y := yX24_carryOut) (As := [va_rf v51, .int v60, .int v64]) (r := v40) F (hno _) dX2_close_67 (fun z => fX24_carryOut_m (xFG F) z v51 v60 v64) rfl (ci := 51) (C := RX24) (T := TX24) rfl q3104 q3089 q3103 q3102 q3091 (Or.inr q3090) (xroom hRm (Nat.le_of_ble_eq_true rfl) (Nat.le_of_ble_eq_true rfl)) ⟨by decide, by decide⟩ n_X24_carryOut rfl (xcat (Nat.le_of_ble_eq_true rfl)) hK) (fun hK => (xr_UV (x0 := ⟨"ReserveLedger$Kind", "carryOut", "(LReserveLedger$Herd;II)V"⟩) (y := yX25_carryOut) (As := [va_rf v51, .int v60, .int v64]) (r := v40) F (hno _) dX2_close_67 (fun z => fX25_carryOut_m (xFG F) z v51 v60 v64) rfl (ci := 52) (C := RX25) (T := TX25) rfl q3118 q3089 q3117 q3116 q3091 (Or.inr q3090) (xroom hRm (Nat.le_of_ble_eq_true rfl) (Nat.le_of_ble_eq_true rfl)) ⟨by decide, by decide⟩ n_X25_carryOut rfl (xcat (Nat.le_of_ble_eq_true rfl)) hK))))
        intro _
        refine xr_aload_n 1 (r := (some l0)) F dX2_close_70 rfl ?_
        refine xr_aload_n 0 (r := v32) F dX2_close_71 rfl ?_
        refine xr_VV (y := yX2_drop) (As := [va_rf v32]) (r := (some l0)) F (hno _) dX2_close_72 (fun z => fX2_drop_m (xFG F) z v32) (Or.inl rfl) (ci := 1) (C := RX2) (T := TX2) rfl q3126 q3123 q3124 q3125 (xroom hRm (Nat.le_of_ble_eq_true rfl) (Nat.le_of_ble_eq_true rfl)) ⟨by decide, by decide⟩ n_X2_drop rfl (xcat (Nat.le_of_ble_eq_true rfl)) (fun _ => ?_)
        refine xs_inc [3, 1, 2] F dX2_close_75 rfl hnL rfl rfl (xk1 rfl rfl (xk2 rfl (xrf_cat _) xk0)) (fun x2_75 => ?_)
        refine xr_goto 7 F dX2_close_78 rfl ?_
        exact xI.sub [1, 2, 0] rfl (ih l0 l1 x2_75)
      · exact xI.sub [0, 2] rfl (fX2_close_p81_ok F hnL hRm hno hmn l0 l2)
    · exact xI.sub [0, 2] rfl (fX2_close_p81_ok F hnL hRm hno hmn l0 l2)
theorem fX2_close_m {l : Launch} {D : xD} {s0 : State} {b0 : Nat} {Γ : Nat → Option Nat} (G : xG l D s0 b0 Γ) (a0 : Nat) : xMeth l D s0 Γ yX2_close (Cond.code yX2_close cX2_close 5 (some .int)) (5005) (112104) [.ref a0] xeI (fX2_close a0) := by
  refine xMeth.of (lv0 := [(0, va_rf (some a0))]) G (by decide +kernel) (Or.inl rfl) (Nat.le_of_ble_eq_true rfl) rfl (fun x F hnL hRm hmn ht e1 e2 e3 e4 => ?_)
  have hno : ∀ pc, xNo x pc := fun pc z hz => by rw [ht.1 rfl] at hz; cases hz
  unfold fX2_close
  refine xr_aload_n 0 (r := (some a0)) F dX2_close_0 rfl ?_
  refine xr_VR (y := yX2_queue) (As := []) (r := (some a0)) F (hno _) dX2_close_1 (fun z => fX2_queue_m (xFG F) z) (Or.inl rfl) (ci := 1) (C := RX2) (T := TX2) rfl q2815 q2812 q2813 q2814 (xroom hRm (Nat.le_of_ble_eq_true rfl) (Nat.le_of_ble_eq_true rfl)) ⟨by decide, by decide⟩ n_X2_queue rfl (xcat (Nat.le_of_ble_eq_true rfl)) (fun v1 => ?_)
  refine xs_a_n [0] F dX2_close_4 hnL rfl rfl (xk2 rfl (xrf_cat _) xk0) ?_
  refine xr_iconst (0 : Int32) F dX2_close_5 rfl ?_
  refine xr_letI (fun x2_6 => ?_)
  refine xs_i_n [0, 1] F dX2_close_6 hnL rfl rfl (xk2 rfl (xrf_cat _) (xk1 rfl rfl xk0)) ?_
  exact xI.sub [2, 1, 0] rfl (fX2_close_p7_ok F hnL hRm hno hmn xFU a0 v1 x2_6)
theorem fX1_checkState_m {l : Launch} {D : xD} {s0 : State} {b0 : Nat} {Γ : Nat → Option Nat} (G : xG l D s0 b0 Γ) (p0 : Int32) : xMeth l D s0 Γ yX1_checkState (Cond.code yX1_checkState cX1_checkState 1 none) (6) (89) [.int p0] xeV (fX1_checkState p0) := by
  refine xMeth.of (lv0 := [(0, .int p0)]) G (by decide +kernel) (Or.inl rfl) (Nat.le_of_ble_eq_true rfl) rfl (fun x F hnL hRm hmn ht e1 e2 e3 e4 => ?_)
  have hno : ∀ pc, xNo x pc := fun pc z hz => by rw [ht.1 rfl] at hz; cases hz
  unfold fX1_checkState
  refine xr_iload_n 0 F dX1_checkState_0 rfl ?_
  refine xr_if_ne 12 F dX1_checkState_1 rfl ?_ ?_
  · refine xr_mk (names := xnms) F dX1_checkState_4 dX1_checkState_7 dX1_checkState_8 rfl (by decide +kernel) (by decide +kernel) q2994 q189 xat_18 xag_18 (xao_18 16 q2994) (xroom hRm (Nat.le_of_ble_eq_true rfl) (Nat.le_of_ble_eq_true rfl)) (xcat (Nat.le_of_ble_eq_true rfl)) (fun v4 => ?_)
    exact xr_throw (r := (some v4)) F dX1_checkState_11 (hno _)
  · exact xr_vret F dX1_checkState_12
theorem fJ30_init_m {l : Launch} {D : xD} {s0 : State} {b0 : Nat} {Γ : Nat → Option Nat} (G : xG l D s0 b0 Γ) (a0 : Nat) (p0 : Option Nat) (p1 : Option Nat) (p2 : Option Nat) : xMeth l D s0 Γ yJ30_init (Cond.code yJ30_init cJ30_init 4 none) (1) (20) [.ref a0, va_rf p0, va_rf p1, va_rf p2] xeV (fJ30_init a0 p0 p1 p2) := by
  refine xMeth.of (lv0 := [(0, va_rf (some a0)), (1, va_rf p0), (2, va_rf p1), (3, va_rf p2)]) G (by decide +kernel) (Or.inl rfl) (by simp [lg_sl, xrf_cat, xct_i, xct_l, xct_d, xct_r]) (by simp [lv_args, xrf_cat, xct_i, xct_l, xct_d, xct_r, xrf_some]) (fun x F hnL hRm hmn ht e1 e2 e3 e4 => ?_)
  have hno : ∀ pc, xNo x pc := fun pc z hz => by rw [ht.1 rfl] at hz; cases hz
  unfold fJ30_init
  refine xr_aload_n 0 (r := (some a0)) F dJ30_init_0 rfl ?_
  refine xr_obj F dJ30_init_1 q2121 q200 (q_objcode) (xroom hRm (Nat.le_of_ble_eq_true rfl) (Nat.le_of_ble_eq_true rfl)) (xcat (Nat.le_of_ble_eq_true rfl)) ?_
  refine xr_aload_n 0 (r := (some a0)) F dJ30_init_4 rfl ?_
  refine xr_aload_n 2 (r := p1) F dJ30_init_5 rfl ?_
  refine xr_put (r := (some a0)) (ref := "java/util/LinkedList$Node") F dJ30_init_6 xk_25 (by decide) (Or.inl q2122) (Or.inl rfl) (Or.inl rfl) (xr_rf _ _) ?_
  refine xr_aload_n 0 (r := (some a0)) F dJ30_init_9 rfl ?_
  refine xr_aload_n 3 (r := p2) F dJ30_init_10 rfl ?_
  refine xr_put (r := (some a0)) (ref := "java/util/LinkedList$Node") F dJ30_init_11 xk_25 (by decide) (Or.inl q2125) (Or.inl rfl) (Or.inl rfl) (xr_rf _ _) ?_
  refine xr_aload_n 0 (r := (some a0)) F dJ30_init_14 rfl ?_
  refine xr_aload_n 1 (r := p0) F dJ30_init_15 rfl ?_
  refine xr_put (r := (some a0)) (ref := "java/util/LinkedList$Node") F dJ30_init_16 xk_25 (by decide) (Or.inl q2128) (Or.inl rfl) (Or.inl rfl) (xr_rf _ _) ?_
  exact xr_vret F dJ30_init_19
theorem fJ19_linkLast_p38_ok {x : xC} (F : xF x RJ19 cJ19_linkLast none) (hnL : xnL x = 4) (hRm : ∃ dc ds, x.2.2.2.1 = { frames := 2, cells := dc, slots := ds, locals := 43 }) (hno : ∀ pc, xNo x pc) (hmn : xmn x = "linkLast" ∧ xmy x yJ19_linkLast) (l0 : Nat) : xI x xeV 38 [(0, va_rf (some l0))] [] (fJ19_linkLast_p38 l0) := by
  unfold fJ19_linkLast_p38
  refine xr_aload_n 0 (r := (some l0)) F dJ19_linkLast_38 rfl ?_
  refine xr_dup F dJ19_linkLast_39 (xrf_cat _) ?_
  refine xr_gI (r := (some l0)) (ref := "java/util/LinkedList") F dJ19_linkLast_40 (C := RJ19) (T := TJ19) (N := 4) rfl (by decide) (Or.inl q571) (Or.inl rfl) (fun v40 => ?_)
  refine xr_iconst (1 : Int32) F dJ19_linkLast_43 rfl ?_
  refine xr_iadd F dJ19_linkLast_44 ?_
  refine xr_put (r := (some l0)) (ref := "java/util/LinkedList") F dJ19_linkLast_45 xk_6 (by decide) (Or.inl q571) (Or.inl rfl) (Or.inl rfl) ⟨rfl, rfl⟩ ?_
  refine xr_aload_n 0 (r := (some l0)) F dJ19_linkLast_48 rfl ?_
  refine xr_dup F dJ19_linkLast_49 (xrf_cat _) ?_
  refine xr_gI (r := (some l0)) (ref := "java/util/LinkedList") F dJ19_linkLast_50 (C := RJ19) (T := TJ19) (N := 4) rfl (by decide) (Or.inl q553) (Or.inr q549) (fun v50 => ?_)
  refine xr_iconst (1 : Int32) F dJ19_linkLast_53 rfl ?_
  refine xr_iadd F dJ19_linkLast_54 ?_
  refine xr_put (r := (some l0)) (ref := "java/util/LinkedList") F dJ19_linkLast_55 xk_6 (by decide) (Or.inl q553) (Or.inr q549) (Or.inl rfl) ⟨rfl, rfl⟩ ?_
  exact xr_vret F dJ19_linkLast_58
theorem fJ19_linkLast_m {l : Launch} {D : xD} {s0 : State} {b0 : Nat} {Γ : Nat → Option Nat} (G : xG l D s0 b0 Γ) (a0 : Nat) (p0 : Option Nat) : xMeth l D s0 Γ yJ19_linkLast (Cond.code yJ19_linkLast cJ19_linkLast 4 none) (2) (43) [.ref a0, va_rf p0] xeV (fJ19_linkLast a0 p0) := by
  refine xMeth.of (lv0 := [(0, va_rf (some a0)), (1, va_rf p0)]) G (by decide +kernel) (Or.inl rfl) (by simp [lg_sl, xrf_cat, xct_i, xct_l, xct_d, xct_r]) (by simp [lv_args, xrf_cat, xct_i, xct_l, xct_d, xct_r, xrf_some]) (fun x F hnL hRm hmn ht e1 e2 e3 e4 => ?_)
  have hno : ∀ pc, xNo x pc := fun pc z hz => by rw [ht.1 rfl] at hz; cases hz
  unfold fJ19_linkLast
  refine xr_aload_n 0 (r := (some a0)) F dJ19_linkLast_0 rfl ?_
  refine xr_gR (r := (some a0)) (ref := "java/util/LinkedList") F dJ19_linkLast_1 (C := RJ19) (T := TJ19) (N := 4) rfl (by decide) (Or.inl q574) (Or.inl rfl) (fun v1 => ?_)
  refine xs_a_n [0, 1] F dJ19_linkLast_4 hnL rfl rfl (xk1 rfl rfl (xk2 rfl (xrf_cat _) xk0)) ?_
  refine xr_new F dJ19_linkLast_5 xk_25 xdf_25 q2116 q2117 q163 (fun v5 => ?_)
  refine xr_dup F dJ19_linkLast_8 (xrf_cat _) ?_
  refine xr_aload_n 0 (r := v1) F dJ19_linkLast_9 rfl ?_
  refine xr_aload_n 2 (r := p0) F dJ19_linkLast_10 rfl ?_
  refine xr_null F dJ19_linkLast_11 ?_
  refine xr_IV (y := yJ30_init) (As := [va_rf v1, va_rf p0, va_rf none]) F (hno _) dJ19_linkLast_12 (fJ30_init_m (xFG F) v5 v1 p0 none) rfl rfl q2120 (Or.inl q2118) q2119 (xroom hRm (Nat.le_of_ble_eq_true rfl) (Nat.le_of_ble_eq_true rfl)) ⟨by decide, by decide⟩ n_J30_init rfl (xcat (Nat.le_of_ble_eq_true rfl)) (fun _ => ?_)
  refine xs_a_n [0, 1] F dJ19_linkLast_15 hnL rfl rfl (xk2 rfl (xrf_cat _) (xk1 rfl rfl xk0)) ?_
  refine xr_aload_n 2 (r := (some a0)) F dJ19_linkLast_16 rfl ?_
  refine xr_aload_n 0 (r := (some v5)) F dJ19_linkLast_17 rfl ?_
  refine xr_put (r := (some a0)) (ref := "java/util/LinkedList") F dJ19_linkLast_18 xk_6 (by decide) (Or.inl q574) (Or.inl rfl) (Or.inl rfl) (xr_rf _ _) ?_
  refine xr_aload_n 1 (r := v1) F dJ19_linkLast_21 rfl ?_
  refine xr_ifnonnull 33 F dJ19_linkLast_22 rfl ?_ ?_
  · refine xr_aload_n 2 (r := (some a0)) F dJ19_linkLast_25 rfl ?_
    refine xr_aload_n 0 (r := (some v5)) F dJ19_linkLast_26 rfl ?_
    refine xr_put (r := (some a0)) (ref := "java/util/LinkedList") F dJ19_linkLast_27 xk_6 (by decide) (Or.inl q573) (Or.inl rfl) (Or.inl rfl) (xr_rf _ _) ?_
    refine xr_goto 38 F dJ19_linkLast_30 rfl ?_
    exact xI.sub [2] rfl (fJ19_linkLast_p38_ok F hnL hRm hno hmn a0)
  · refine xr_aload_n 1 (r := v1) F dJ19_linkLast_33 rfl ?_
    refine xr_aload_n 0 (r := (some v5)) F dJ19_linkLast_34 rfl ?_
    refine xr_put (r := v1) (ref := "java/util/LinkedList$Node") F dJ19_linkLast_35 xk_25 (by decide) (Or.inl q2127) (Or.inl rfl) (Or.inl rfl) (xr_rf _ _) ?_
    exact xI.sub [2] rfl (fJ19_linkLast_p38_ok F hnL hRm hno hmn a0)
theorem fJ19_addLast_m {l : Launch} {D : xD} {s0 : State} {b0 : Nat} {Γ : Nat → Option Nat} (G : xG l D s0 b0 Γ) (a0 : Nat) (p0 : Option Nat) : xMeth l D s0 Γ yJ19_addLast (Cond.code yJ19_addLast cJ19_addLast 2 none) (3) (66) [.ref a0, va_rf p0] xeV (fJ19_addLast a0 p0) := by
  refine xMeth.of (lv0 := [(0, va_rf (some a0)), (1, va_rf p0)]) G (by decide +kernel) (Or.inl rfl) (by simp [lg_sl, xrf_cat, xct_i, xct_l, xct_d, xct_r]) (by simp [lv_args, xrf_cat, xct_i, xct_l, xct_d, xct_r, xrf_some]) (fun x F hnL hRm hmn ht e1 e2 e3 e4 => ?_)
  have hno : ∀ pc, xNo x pc := fun pc z hz => by rw [ht.1 rfl] at hz; cases hz
  unfold fJ19_addLast
  refine xr_aload_n 0 (r := (some a0)) F dJ19_addLast_0 rfl ?_
  refine xr_aload_n 1 (r := p0) F dJ19_addLast_1 rfl ?_
  refine xr_VV (y := yJ19_linkLast) (As := [va_rf p0]) (r := (some a0)) F (hno _) dJ19_addLast_2 (fun z => fJ19_linkLast_m (xFG F) z p0) (Or.inl rfl) (ci := 6) (C := RJ19) (T := TJ19) rfl q2115 q2112 q2113 q2114 (xroom hRm (Nat.le_of_ble_eq_true rfl) (Nat.le_of_ble_eq_true rfl)) ⟨by decide, by decide⟩ n_J19_linkLast rfl (xcat (Nat.le_of_ble_eq_true rfl)) (fun _ => ?_)
  exact xr_vret F dJ19_addLast_5
theorem fJ19_add_m {l : Launch} {D : xD} {s0 : State} {b0 : Nat} {Γ : Nat → Option Nat} (G : xG l D s0 b0 Γ) (a0 : Nat) (p0 : Option Nat) : xMeth l D s0 Γ yJ19_add (Cond.code yJ19_add cJ19_add 2 (some .boolean)) (3) (66) [.ref a0, va_rf p0] xeI (fJ19_add a0 p0) := by
  refine xMeth.of (lv0 := [(0, va_rf (some a0)), (1, va_rf p0)]) G (by decide +kernel) (Or.inl rfl) (by simp [lg_sl, xrf_cat, xct_i, xct_l, xct_d, xct_r]) (by simp [lv_args, xrf_cat, xct_i, xct_l, xct_d, xct_r, xrf_some]) (fun x F hnL hRm hmn ht e1 e2 e3 e4 => ?_)
  have hno : ∀ pc, xNo x pc := fun pc z hz => by rw [ht.1 rfl] at hz; cases hz
  unfold fJ19_add
  refine xr_aload_n 0 (r := (some a0)) F dJ19_add_0 rfl ?_
  refine xr_aload_n 1 (r := p0) F dJ19_add_1 rfl ?_
  refine xr_VV (y := yJ19_linkLast) (As := [va_rf p0]) (r := (some a0)) F (hno _) dJ19_add_2 (fun z => fJ19_linkLast_m (xFG F) z p0) (Or.inl rfl) (ci := 6) (C := RJ19) (T := TJ19) rfl q2115 q2112 q2113 q2114 (xroom hRm (Nat.le_of_ble_eq_true rfl) (Nat.le_of_ble_eq_true rfl)) ⟨by decide, by decide⟩ n_J19_linkLast rfl (xcat (Nat.le_of_ble_eq_true rfl)) (fun _ => ?_)
  refine xr_iconst (1 : Int32) F dJ19_add_5 rfl ?_
  exact xr_zret F dJ19_add_6 rfl
theorem fJ27_newCapacity_m {l : Launch} {D : xD} {s0 : State} {b0 : Nat} {Γ : Nat → Option Nat} (G : xG l D s0 b0 Γ) (a0 : Nat) (p0 : Int32) (p1 : Int32) : xMeth l D s0 Γ yJ27_newCapacity (Cond.code yJ27_newCapacity cJ27_newCapacity 5 (some .int)) (1) (12) [.ref a0, .int p0, .int p1] xeI (fJ27_newCapacity a0 p0 p1) := by
  refine xMeth.of (lv0 := [(0, va_rf (some a0)), (1, .int p0), (2, .int p1)]) G (by decide +kernel) (Or.inl rfl) (Nat.le_of_ble_eq_true rfl) rfl (fun x F hnL hRm hmn ht e1 e2 e3 e4 => ?_)
  have hno : ∀ pc, xNo x pc := fun pc z hz => by rw [ht.1 rfl] at hz; cases hz
  unfold fJ27_newCapacity
  refine xr_aload_n 0 (r := (some a0)) F dJ27_newCapacity_0 rfl ?_
  refine xr_gR (r := (some a0)) (ref := "java/util/ArrayDeque") F dJ27_newCapacity_1 (C := RJ27) (T := TJ27) (N := 3) rfl (by decide) (Or.inl q2000) (Or.inl rfl) (fun v1 => ?_)
  refine xr_len (r := v1) F dJ27_newCapacity_4 (fun v4 => ?_)
  refine xs_i_n [1, 2] F dJ27_newCapacity_5 hnL rfl rfl (xk1 rfl rfl (xk2 rfl rfl xk0)) ?_
  refine xr_iload_n 0 F dJ27_newCapacity_6 rfl ?_
  refine xr_iload_n 1 F dJ27_newCapacity_7 rfl ?_
  refine xr_iadd F dJ27_newCapacity_8 ?_
  refine xr_letI (fun x_9 => ?_)
  refine xr_dup F dJ27_newCapacity_9 rfl ?_
  refine xs_i [0, 1, 2] F dJ27_newCapacity_10 hnL rfl rfl (xk2 rfl rfl (xk1 rfl rfl (xk1 rfl rfl xk0))) ?_
  refine xr_ldc F dJ27_newCapacity_12 q3062 ?_
  refine xr_isub F dJ27_newCapacity_14 ?_
  refine xr_if_le 36 F dJ27_newCapacity_15 rfl ?_ ?_
  · refine xr_iload_n 2 F dJ27_newCapacity_36 rfl ?_
    refine xr_iload_n 3 F dJ27_newCapacity_37 rfl ?_
    refine xr_icmp_le 44 F dJ27_newCapacity_38 rfl ?_ ?_
    · refine xr_iload_n 1 F dJ27_newCapacity_44 rfl ?_
      refine xr_iload_n 3 F dJ27_newCapacity_45 rfl ?_
      refine xr_iadd F dJ27_newCapacity_46 ?_
      refine xr_ldc F dJ27_newCapacity_47 q3062 ?_
      refine xr_isub F dJ27_newCapacity_49 ?_
      refine xr_if_ge 59 F dJ27_newCapacity_50 rfl ?_ ?_
      · refine xr_ldc F dJ27_newCapacity_59 q3062 ?_
        exact xr_iret F dJ27_newCapacity_61
      · refine xr_iload_n 1 F dJ27_newCapacity_53 rfl ?_
        refine xr_iload_n 3 F dJ27_newCapacity_54 rfl ?_
        refine xr_iadd F dJ27_newCapacity_55 ?_
        refine xr_goto 61 F dJ27_newCapacity_56 rfl ?_
        exact xr_iret F dJ27_newCapacity_61
    · refine xr_iload 0 F dJ27_newCapacity_41 rfl ?_
      exact xr_iret F dJ27_newCapacity_43
  · refine xr_iload 0 F dJ27_newCapacity_18 rfl ?_
    refine xr_if_ge 33 F dJ27_newCapacity_20 rfl ?_ ?_
    · refine xr_ldc F dJ27_newCapacity_33 q3073 ?_
      exact xr_iret F dJ27_newCapacity_35
    · exact xI.stuck
theorem fJ27_grow_p145_ok {x : xC} (F : xF x RJ27 cJ27_grow none) (hnL : xnL x = 9) (hRm : ∃ dc ds, x.2.2.2.1 = { frames := 4, cells := dc, slots := ds, locals := 104 }) (hno : ∀ pc, xNo x pc) (hmn : xmn x = "grow" ∧ xmy x yJ27_grow) : ∀ (n : Nat) (l5 : Option Nat) (l7 : Int32) (l8 : Int32), xI x xeV 145 [(5, va_rf l5), (7, .int l7), (8, .int l8)] [] (fJ27_grow_p145 n l5 l7 l8) := by
  intro n
  induction n with
  | zero => intro l5 l7 l8; exact xI.stuck
  | succ n ih =>
    intro l5 l7 l8
    unfold fJ27_grow_p145
    refine xr_iload 1 F dJ27_grow_145 rfl ?_
    refine xr_iload 2 F dJ27_grow_147 rfl ?_
    refine xr_icmp_ge 164 F dJ27_grow_149 rfl ?_ ?_
    · exact xr_vret F dJ27_grow_164
    · refine xr_aload 0 (r := l5) F dJ27_grow_152 rfl ?_
      refine xr_iload 1 F dJ27_grow_154 rfl ?_
      refine xr_null F dJ27_grow_156 ?_
      refine xr_aast (v := none) (r := l5) F dJ27_grow_157 rfl xokObj_ok ?_
      refine xs_inc [1, 0, 2] F dJ27_grow_158 rfl hnL rfl rfl (xk1 rfl rfl (xk1 rfl rfl xk0)) (fun x7_158 => ?_)
      refine xr_goto 145 F dJ27_grow_161 rfl ?_
      exact xI.sub [1, 0, 2] rfl (ih l5 x7_158 l8)
theorem fJ27_grow_p96_ok {x : xC} (F : xF x RJ27 cJ27_grow none) (hnL : xnL x = 9) (hRm : ∃ dc ds, x.2.2.2.1 = { frames := 4, cells := dc, slots := ds, locals := 104 }) (hno : ∀ pc, xNo x pc) (hmn : xmn x = "grow" ∧ xmy x yJ27_grow) (l0 : Nat) (l2 : Int32) (l3 : Int32) (l5 : Option Nat) : xI x xeV 96 [(0, va_rf (some l0)), (2, .int l2), (3, .int l3), (5, va_rf l5)] [] (fJ27_grow_p96 l0 l2 l3 l5) := by
  unfold fJ27_grow_p96
  refine xr_iload_n 2 F dJ27_grow_96 rfl ?_
  refine xr_iload_n 1 F dJ27_grow_97 rfl ?_
  refine xr_isub F dJ27_grow_98 ?_
  refine xr_letI (fun x6_99 => ?_)
  refine xs_i [0, 1, 3] F dJ27_grow_99 hnL rfl rfl (xk1 rfl rfl (xk1 rfl rfl (xk2 rfl (xrf_cat _) xk0))) ?_
  refine xr_aload 3 (r := l5) F dJ27_grow_101 rfl ?_
  refine xr_aload_n 1 (r := (some l0)) F dJ27_grow_103 rfl ?_
  refine xr_gI (r := (some l0)) (ref := "java/util/ArrayDeque") F dJ27_grow_104 (C := RJ27) (T := TJ27) (N := 3) rfl (by decide) (Or.inl q2003) (Or.inl rfl) (fun v104 => ?_)
  refine xr_aload 3 (r := l5) F dJ27_grow_107 rfl ?_
  refine xr_aload_n 1 (r := (some l0)) F dJ27_grow_109 rfl ?_
  refine xr_gI (r := (some l0)) (ref := "java/util/ArrayDeque") F dJ27_grow_110 (C := RJ27) (T := TJ27) (N := 3) rfl (by decide) (Or.inl q2003) (Or.inl rfl) (fun v110 => ?_)
  refine xr_iload 0 F dJ27_grow_113 rfl ?_
  refine xr_iadd F dJ27_grow_115 ?_
  refine xr_iload_n 2 F dJ27_grow_116 rfl ?_
  refine xr_aload_n 1 (r := (some l0)) F dJ27_grow_117 rfl ?_
  refine xr_gI (r := (some l0)) (ref := "java/util/ArrayDeque") F dJ27_grow_118 (C := RJ27) (T := TJ27) (N := 3) rfl (by decide) (Or.inl q2003) (Or.inl rfl) (fun v118 => ?_)
  refine xr_isub F dJ27_grow_121 ?_
  refine xr_cpR (t := 5) (sr := l5) (dr := l5) F dJ27_grow_122 rfl xokObj_ok q3075 q348 q347 q137 (xroom hRm (Nat.le_of_ble_eq_true rfl) (Nat.le_of_ble_eq_true rfl)) (xcat (Nat.le_of_ble_eq_true rfl)) ?_
  refine xr_aload_n 1 (r := (some l0)) F dJ27_grow_125 rfl ?_
  refine xr_gI (r := (some l0)) (ref := "java/util/ArrayDeque") F dJ27_grow_126 (C := RJ27) (T := TJ27) (N := 3) rfl (by decide) (Or.inl q2003) (Or.inl rfl) (fun v126 => ?_)
  refine xs_i [0, 1, 3] F dJ27_grow_129 hnL rfl rfl (xk2 rfl rfl (xk1 rfl rfl (xk1 rfl rfl xk0))) ?_
  refine xr_aload_n 2 (r := (some l0)) F dJ27_grow_131 rfl ?_
  refine xr_dup F dJ27_grow_132 (xrf_cat _) ?_
  refine xr_gI (r := (some l0)) (ref := "java/util/ArrayDeque") F dJ27_grow_133 (C := RJ27) (T := TJ27) (N := 3) rfl (by decide) (Or.inl q2003) (Or.inl rfl) (fun v133 => ?_)
  refine xr_iload 1 F dJ27_grow_136 rfl ?_
  refine xr_iadd F dJ27_grow_138 ?_
  refine xr_letI (fun x_139 => ?_)
  refine xr_dup_x1 F dJ27_grow_139 rfl (xrf_cat _) ?_
  refine xr_put (r := (some l0)) (ref := "java/util/ArrayDeque") F dJ27_grow_140 xk_23 (by decide) (Or.inl q2003) (Or.inl rfl) (Or.inl rfl) ⟨rfl, rfl⟩ ?_
  refine xs_i [0, 3] F dJ27_grow_143 hnL rfl rfl (xk2 rfl rfl (xk1 rfl rfl xk0)) ?_
  exact xI.sub [2, 1, 0] rfl (fJ27_grow_p145_ok F hnL hRm hno hmn xFU l5 v126 x_139)
theorem fJ27_grow_p49_ok {x : xC} (F : xF x RJ27 cJ27_grow none) (hnL : xnL x = 9) (hRm : ∃ dc ds, x.2.2.2.1 = { frames := 4, cells := dc, slots := ds, locals := 104 }) (hno : ∀ pc, xNo x pc) (hmn : xmn x = "grow" ∧ xmy x yJ27_grow) (l0 : Nat) (l2 : Int32) (l3 : Int32) : xI x xeV 49 [(0, va_rf (some l0)), (2, .int l2), (3, .int l3)] [] (fJ27_grow_p49 l0 l2 l3) := by
  unfold fJ27_grow_p49
  refine xr_aload_n 0 (r := (some l0)) F dJ27_grow_49 rfl ?_
  refine xr_aload_n 0 (r := (some l0)) F dJ27_grow_50 rfl ?_
  refine xr_gR (r := (some l0)) (ref := "java/util/ArrayDeque") F dJ27_grow_51 (C := RJ27) (T := TJ27) (N := 3) rfl (by decide) (Or.inl q2000) (Or.inl rfl) (fun v51 => ?_)
  refine xr_iload_n 2 F dJ27_grow_54 rfl ?_
  refine xr_SR (y := yJ13_copyOf_2) (As := [va_rf v51, .int l3]) F (hno _) dJ27_grow_55 (fJ13_copyOf_2_m (xFG F) v51 l3) (Or.inl rfl) q2099 q136 (Or.inl q3074) q2098 (xroom hRm (Nat.le_of_ble_eq_true rfl) (Nat.le_of_ble_eq_true rfl)) ⟨by decide, by decide⟩ n_J13_copyOf_2 rfl (xcat (Nat.le_of_ble_eq_true rfl)) (fun v55 => ?_)
  refine xr_dup_x1 F dJ27_grow_58 (xrf_cat _) (xrf_cat _) ?_
  refine xr_put (r := (some l0)) (ref := "java/util/ArrayDeque") F dJ27_grow_59 xk_23 (by decide) (Or.inl q2000) (Or.inl rfl) (Or.inl rfl) (xr_rfa _ _) ?_
  refine xs_a [0, 1, 2] F dJ27_grow_62 hnL rfl rfl (xk1 rfl rfl (xk1 rfl rfl (xk1 rfl rfl xk0))) ?_
  refine xr_aload_n 1 (r := (some l0)) F dJ27_grow_64 rfl ?_
  refine xr_gI (r := (some l0)) (ref := "java/util/ArrayDeque") F dJ27_grow_65 (C := RJ27) (T := TJ27) (N := 3) rfl (by decide) (Or.inl q2004) (Or.inl rfl) (fun v65 => ?_)
  refine xr_aload_n 1 (r := (some l0)) F dJ27_grow_68 rfl ?_
  refine xr_gI (r := (some l0)) (ref := "java/util/ArrayDeque") F dJ27_grow_69 (C := RJ27) (T := TJ27) (N := 3) rfl (by decide) (Or.inl q2003) (Or.inl rfl) (fun v69 => ?_)
  refine xr_icmp_lt 96 F dJ27_grow_72 rfl ?_ ?_
  · exact xI.sub [1, 2, 3, 0] rfl (fJ27_grow_p96_ok F hnL hRm hno hmn l0 l2 l3 v55)
  · refine xr_aload_n 1 (r := (some l0)) F dJ27_grow_75 rfl ?_
    refine xr_gI (r := (some l0)) (ref := "java/util/ArrayDeque") F dJ27_grow_76 (C := RJ27) (T := TJ27) (N := 3) rfl (by decide) (Or.inl q2004) (Or.inl rfl) (fun v76 => ?_)
    refine xr_aload_n 1 (r := (some l0)) F dJ27_grow_79 rfl ?_
    refine xr_gI (r := (some l0)) (ref := "java/util/ArrayDeque") F dJ27_grow_80 (C := RJ27) (T := TJ27) (N := 3) rfl (by decide) (Or.inl q2003) (Or.inl rfl) (fun v80 => ?_)
    refine xr_icmp_ne 164 F dJ27_grow_83 rfl ?_ ?_
    · refine xr_aload 0 (r := v55) F dJ27_grow_86 rfl ?_
      refine xr_aload_n 1 (r := (some l0)) F dJ27_grow_88 rfl ?_
      refine xr_gI (r := (some l0)) (ref := "java/util/ArrayDeque") F dJ27_grow_89 (C := RJ27) (T := TJ27) (N := 3) rfl (by decide) (Or.inl q2003) (Or.inl rfl) (fun v89 => ?_)
      refine xr_aald (r := v55) F dJ27_grow_92 (fun v92 => ?_)
      refine xr_ifnull 164 F dJ27_grow_93 rfl ?_ ?_
      · exact xr_vret F dJ27_grow_164
      · exact xI.sub [1, 2, 3, 0] rfl (fJ27_grow_p96_ok F hnL hRm hno hmn l0 l2 l3 v55)
    · exact xr_vret F dJ27_grow_164
theorem fJ27_grow_p41_ok {x : xC} (F : xF x RJ27 cJ27_grow none) (hnL : xnL x = 9) (hRm : ∃ dc ds, x.2.2.2.1 = { frames := 4, cells := dc, slots := ds, locals := 104 }) (hno : ∀ pc, xNo x pc) (hmn : xmn x = "grow" ∧ xmy x yJ27_grow) (l0 : Nat) (l1 : Int32) (l2 : Int32) (l4 : Int32) : xI x xeV 41 [(0, va_rf (some l0)), (1, .int l1), (2, .int l2), (4, .int l4)] [] (fJ27_grow_p41 l0 l1 l2 l4) := by
  unfold fJ27_grow_p41
  refine xr_aload_n 0 (r := (some l0)) F dJ27_grow_41 rfl ?_
  refine xr_iload_n 1 F dJ27_grow_42 rfl ?_
  refine xr_iload 3 F dJ27_grow_43 rfl ?_
  refine xr_VI (y := yJ27_newCapacity) (As := [.int l1, .int l4]) (r := (some l0)) F (hno _) dJ27_grow_45 (fun z => fJ27_newCapacity_m (xFG F) z l1 l4) (Or.inl rfl) (ci := 23) (C := RJ27) (T := TJ27) rfl q3066 q3063 q3065 qs43 (xroom hRm (Nat.le_of_ble_eq_true rfl) (Nat.le_of_ble_eq_true rfl)) ⟨by decide, by decide⟩ n_J27_newCapacity rfl (xcat (Nat.le_of_ble_eq_true rfl)) (fun v45 => ?_)
  refine xs_i_n [0, 2] F dJ27_grow_48 hnL rfl rfl (xk1 rfl rfl (xk2 rfl rfl xk0)) ?_
  exact xI.sub [1, 2, 0] rfl (fJ27_grow_p49_ok F hnL hRm hno hmn l0 l2 v45)
theorem fJ27_grow_p21_ok {x : xC} (F : xF x RJ27 cJ27_grow none) (hnL : xnL x = 9) (hRm : ∃ dc ds, x.2.2.2.1 = { frames := 4, cells := dc, slots := ds, locals := 104 }) (hno : ∀ pc, xNo x pc) (hmn : xmn x = "grow" ∧ xmy x yJ27_grow) (l0 : Nat) (l1 : Int32) (l2 : Int32) (s0 : Int32) : xI x xeV 21 [(0, va_rf (some l0)), (1, .int l1), (2, .int l2)] [.int s0] (fJ27_grow_p21 l0 l1 l2 s0) := by
  unfold fJ27_grow_p21
  refine xs_i [0, 1, 2] F dJ27_grow_21 hnL rfl rfl (xk1 rfl rfl (xk1 rfl rfl (xk1 rfl rfl xk0))) ?_
  refine xr_iload 0 F dJ27_grow_23 rfl ?_
  refine xr_iload_n 2 F dJ27_grow_25 rfl ?_
  refine xr_icmp_lt 41 F dJ27_grow_26 rfl ?_ ?_
  · exact xI.sub [1, 2, 3, 0] rfl (fJ27_grow_p41_ok F hnL hRm hno hmn l0 l1 l2 s0)
  · refine xr_iload_n 3 F dJ27_grow_29 rfl ?_
    refine xr_iload 0 F dJ27_grow_30 rfl ?_
    refine xr_iadd F dJ27_grow_32 ?_
    refine xr_letI (fun x_33 => ?_)
    refine xr_dup F dJ27_grow_33 rfl ?_
    refine xs_i_n [0, 1, 2, 3] F dJ27_grow_34 hnL rfl rfl (xk1 rfl rfl (xk1 rfl rfl (xk1 rfl rfl (xk2 rfl rfl xk0)))) ?_
    refine xr_ldc F dJ27_grow_35 q3062 ?_
    refine xr_isub F dJ27_grow_37 ?_
    refine xr_if_le 49 F dJ27_grow_38 rfl ?_ ?_
    · exact xI.sub [2, 4, 0] rfl (fJ27_grow_p49_ok F hnL hRm hno hmn l0 l2 x_33)
    · exact xI.sub [2, 3, 4, 1] rfl (fJ27_grow_p41_ok F hnL hRm hno hmn l0 l1 l2 s0)
theorem fJ27_grow_m {l : Launch} {D : xD} {s0 : State} {b0 : Nat} {Γ : Nat → Option Nat} (G : xG l D s0 b0 Γ) (a0 : Nat) (p0 : Int32) : xMeth l D s0 Γ yJ27_grow (Cond.code yJ27_grow cJ27_grow 9 none) (4) (104) [.ref a0, .int p0] xeV (fJ27_grow a0 p0) := by
  refine xMeth.of (lv0 := [(0, va_rf (some a0)), (1, .int p0)]) G (by decide +kernel) (Or.inl rfl) (Nat.le_of_ble_eq_true rfl) rfl (fun x F hnL hRm hmn ht e1 e2 e3 e4 => ?_)
  have hno : ∀ pc, xNo x pc := fun pc z hz => by rw [ht.1 rfl] at hz; cases hz
  unfold fJ27_grow
  refine xr_aload_n 0 (r := (some a0)) F dJ27_grow_0 rfl ?_
  refine xr_gR (r := (some a0)) (ref := "java/util/ArrayDeque") F dJ27_grow_1 (C := RJ27) (T := TJ27) (N := 3) rfl (by decide) (Or.inl q2000) (Or.inl rfl) (fun v1 => ?_)
  refine xr_len (r := v1) F dJ27_grow_4 (fun v4 => ?_)
  refine xs_i_n [0, 1] F dJ27_grow_5 hnL rfl rfl (xk1 rfl rfl (xk2 rfl rfl xk0)) ?_
  refine xr_iload_n 0 F dJ27_grow_6 rfl ?_
  refine xr_bipush (64 : Int32) F dJ27_grow_7 rfl ?_
  refine xr_icmp_ge 18 F dJ27_grow_9 rfl ?_ ?_
  · refine xr_iload_n 0 F dJ27_grow_18 rfl ?_
    refine xr_iconst (1 : Int32) F dJ27_grow_19 rfl ?_
    refine xr_ishr F dJ27_grow_20 ?_
    exact xI.sub [1, 2, 0] rfl (fJ27_grow_p21_ok F hnL hRm hno hmn a0 p0 v4 (v4 >>> ((1 : Int32) &&& 31)))
  · refine xr_iload_n 0 F dJ27_grow_12 rfl ?_
    refine xr_iconst (2 : Int32) F dJ27_grow_13 rfl ?_
    refine xr_iadd F dJ27_grow_14 ?_
    refine xr_goto 21 F dJ27_grow_15 rfl ?_
    exact xI.sub [1, 2, 0] rfl (fJ27_grow_p21_ok F hnL hRm hno hmn a0 p0 v4 (v4 + (2 : Int32)))
theorem fJ27_addLast_m {l : Launch} {D : xD} {s0 : State} {b0 : Nat} {Γ : Nat → Option Nat} (G : xG l D s0 b0 Γ) (a0 : Nat) (p0 : Option Nat) : xMeth l D s0 Γ yJ27_addLast (Cond.code yJ27_addLast cJ27_addLast 3 none) (5) (132) [.ref a0, va_rf p0] xeV (fJ27_addLast a0 p0) := by
  refine xMeth.of (lv0 := [(0, va_rf (some a0)), (1, va_rf p0)]) G (by decide +kernel) (Or.inl rfl) (by simp [lg_sl, xrf_cat, xct_i, xct_l, xct_d, xct_r]) (by simp [lv_args, xrf_cat, xct_i, xct_l, xct_d, xct_r, xrf_some]) (fun x F hnL hRm hmn ht e1 e2 e3 e4 => ?_)
  have hno : ∀ pc, xNo x pc := fun pc z hz => by rw [ht.1 rfl] at hz; cases hz
  unfold fJ27_addLast
  refine xr_aload_n 1 (r := p0) F dJ27_addLast_0 rfl ?_
  refine xr_ifnonnull 12 F dJ27_addLast_1 rfl ?_ ?_
  · exact xI.stuck
  · refine xr_aload_n 0 (r := (some a0)) F dJ27_addLast_12 rfl ?_
    refine xr_gR (r := (some a0)) (ref := "java/util/ArrayDeque") F dJ27_addLast_13 (C := RJ27) (T := TJ27) (N := 3) rfl (by decide) (Or.inl q2000) (Or.inl rfl) (fun v13 => ?_)
    refine xs_a_n [0, 1] F dJ27_addLast_16 hnL rfl rfl (xk1 rfl rfl (xk2 rfl (xrf_cat _) xk0)) ?_
    refine xr_aload_n 0 (r := v13) F dJ27_addLast_17 rfl ?_
    refine xr_aload_n 1 (r := (some a0)) F dJ27_addLast_18 rfl ?_
    refine xr_gI (r := (some a0)) (ref := "java/util/ArrayDeque") F dJ27_addLast_19 (C := RJ27) (T := TJ27) (N := 3) rfl (by decide) (Or.inl q2004) (Or.inl rfl) (fun v19 => ?_)
    refine xr_aload_n 2 (r := p0) F dJ27_addLast_22 rfl ?_
    refine xr_aast (v := p0) (r := v13) F dJ27_addLast_23 rfl xokObj_ok ?_
    refine xr_aload_n 1 (r := (some a0)) F dJ27_addLast_24 rfl ?_
    refine xr_gI (r := (some a0)) (ref := "java/util/ArrayDeque") F dJ27_addLast_25 (C := RJ27) (T := TJ27) (N := 3) rfl (by decide) (Or.inl q2003) (Or.inl rfl) (fun v25 => ?_)
    refine xr_aload_n 1 (r := (some a0)) F dJ27_addLast_28 rfl ?_
    refine xr_aload_n 1 (r := (some a0)) F dJ27_addLast_29 rfl ?_
    refine xr_gI (r := (some a0)) (ref := "java/util/ArrayDeque") F dJ27_addLast_30 (C := RJ27) (T := TJ27) (N := 3) rfl (by decide) (Or.inl q2004) (Or.inl rfl) (fun v30 => ?_)
    refine xr_aload_n 0 (r := v13) F dJ27_addLast_33 rfl ?_
    refine xr_len (r := v13) F dJ27_addLast_34 (fun v34 => ?_)
    refine xr_SI (y := yJ27_inc) (As := [.int v30, .int v34]) F (hno _) dJ27_addLast_35 (fJ27_inc_m (xFG F) v30 v34) (Or.inl rfl) q1070 q155 (Or.inl q1114) q1069 (xroom hRm (Nat.le_of_ble_eq_true rfl) (Nat.le_of_ble_eq_true rfl)) ⟨by decide, by decide⟩ n_J27_inc rfl (xcat (Nat.le_of_ble_eq_true rfl)) (fun v35 => ?_)
    refine xr_dup_x1 F dJ27_addLast_38 rfl (xrf_cat _) ?_
    refine xr_put (r := (some a0)) (ref := "java/util/ArrayDeque") F dJ27_addLast_39 xk_23 (by decide) (Or.inl q2004) (Or.inl rfl) (Or.inl rfl) ⟨rfl, rfl⟩ ?_
    refine xr_icmp_ne 50 F dJ27_addLast_42 rfl ?_ ?_
    · refine xr_aload_n 1 (r := (some a0)) F dJ27_addLast_45 rfl ?_
      refine xr_iconst (1 : Int32) F dJ27_addLast_46 rfl ?_
      refine xr_VV (y := yJ27_grow) (As := [.int (1 : Int32)]) (r := (some a0)) F (hno _) dJ27_addLast_47 (fun z => fJ27_grow_m (xFG F) z (1 : Int32)) (Or.inl rfl) (ci := 23) (C := RJ27) (T := TJ27) rfl q3061 q3058 q3060 qs42 (xroom hRm (Nat.le_of_ble_eq_true rfl) (Nat.le_of_ble_eq_true rfl)) ⟨by decide, by decide⟩ n_J27_grow rfl (xcat (Nat.le_of_ble_eq_true rfl)) (fun _ => ?_)
      exact xr_vret F dJ27_addLast_50
    · exact xr_vret F dJ27_addLast_50
theorem fX9_copy_m {l : Launch} {D : xD} {s0 : State} {b0 : Nat} {Γ : Nat → Option Nat} (G : xG l D s0 b0 Γ) (a0 : Nat) : xMeth l D s0 Γ yX9_copy (Cond.code yX9_copy cX9_copy 2 (some (.object "ReserveLedger$Ledger"))) (2) (41) [.ref a0] xeR (fX9_copy a0) := by
  refine xMeth.of (lv0 := [(0, va_rf (some a0))]) G (by decide +kernel) (Or.inl rfl) (Nat.le_of_ble_eq_true rfl) rfl (fun x F hnL hRm hmn ht e1 e2 e3 e4 => ?_)
  have hno : ∀ pc, xNo x pc := fun pc z hz => by rw [ht.1 rfl] at hz; cases hz
  unfold fX9_copy
  refine xr_new F dX9_copy_0 xk_22 xdf_22 q3046 q1953 q161 (fun v0 => ?_)
  refine xr_dup F dX9_copy_3 (xrf_cat _) ?_
  refine xr_aload_n 0 (r := (some a0)) F dX9_copy_4 rfl ?_
  refine xr_gI (r := (some a0)) (ref := "ReserveLedger$Ledger") F dX9_copy_5 (C := RX9) (T := TX9) (N := 7) rfl (by decide) (Or.inl q1958) (Or.inl rfl) (fun v5 => ?_)
  refine xr_IV (y := yX9_init) (As := [.int v5]) F (hno _) dX9_copy_8 (fX9_init_m (xFG F) v0 v5) rfl rfl q1956 (Or.inl q3047) q1955 (xroom hRm (Nat.le_of_ble_eq_true rfl) (Nat.le_of_ble_eq_true rfl)) ⟨by decide, by decide⟩ n_X9_init rfl (xcat (Nat.le_of_ble_eq_true rfl)) (fun _ => ?_)
  refine xs_a_n [0] F dX9_copy_11 hnL rfl rfl (xk2 rfl (xrf_cat _) xk0) ?_
  refine xr_aload_n 0 (r := (some v0)) F dX9_copy_12 rfl ?_
  refine xr_aload_n 1 (r := (some a0)) F dX9_copy_13 rfl ?_
  refine xr_gI (r := (some a0)) (ref := "ReserveLedger$Ledger") F dX9_copy_14 (C := RX9) (T := TX9) (N := 7) rfl (by decide) (Or.inl q1960) (Or.inl rfl) (fun v14 => ?_)
  refine xr_put (r := (some v0)) (ref := "ReserveLedger$Ledger") F dX9_copy_17 xk_22 (by decide) (Or.inl q1960) (Or.inl rfl) (Or.inl rfl) ⟨rfl, rfl⟩ ?_
  refine xr_aload_n 0 (r := (some v0)) F dX9_copy_20 rfl ?_
  refine xr_aload_n 1 (r := (some a0)) F dX9_copy_21 rfl ?_
  refine xr_gI (r := (some a0)) (ref := "ReserveLedger$Ledger") F dX9_copy_22 (C := RX9) (T := TX9) (N := 7) rfl (by decide) (Or.inl q1963) (Or.inl rfl) (fun v22 => ?_)
  refine xr_put (r := (some v0)) (ref := "ReserveLedger$Ledger") F dX9_copy_25 xk_22 (by decide) (Or.inl q1963) (Or.inl rfl) (Or.inl rfl) ⟨rfl, rfl⟩ ?_
  refine xr_aload_n 0 (r := (some v0)) F dX9_copy_28 rfl ?_
  refine xr_aload_n 1 (r := (some a0)) F dX9_copy_29 rfl ?_
  refine xr_gI (r := (some a0)) (ref := "ReserveLedger$Ledger") F dX9_copy_30 (C := RX9) (T := TX9) (N := 7) rfl (by decide) (Or.inl q1966) (Or.inl rfl) (fun v30 => ?_)
  refine xr_put (r := (some v0)) (ref := "ReserveLedger$Ledger") F dX9_copy_33 xk_22 (by decide) (Or.inl q1966) (Or.inl rfl) (Or.inl rfl) ⟨rfl, rfl⟩ ?_
  refine xr_aload_n 0 (r := (some v0)) F dX9_copy_36 rfl ?_
  refine xr_aload_n 1 (r := (some a0)) F dX9_copy_37 rfl ?_
  refine xr_gI (r := (some a0)) (ref := "ReserveLedger$Ledger") F dX9_copy_38 (C := RX9) (T := TX9) (N := 7) rfl (by decide) (Or.inl q1969) (Or.inl rfl) (fun v38 => ?_)
  refine xr_put (r := (some v0)) (ref := "ReserveLedger$Ledger") F dX9_copy_41 xk_22 (by decide) (Or.inl q1969) (Or.inl rfl) (Or.inl rfl) ⟨rfl, rfl⟩ ?_
  refine xr_aload_n 0 (r := (some v0)) F dX9_copy_44 rfl ?_
  refine xr_aload_n 1 (r := (some a0)) F dX9_copy_45 rfl ?_
  refine xr_gI (r := (some a0)) (ref := "ReserveLedger$Ledger") F dX9_copy_46 (C := RX9) (T := TX9) (N := 7) rfl (by decide) (Or.inl q1972) (Or.inl rfl) (fun v46 => ?_)
  refine xr_put (r := (some v0)) (ref := "ReserveLedger$Ledger") F dX9_copy_49 xk_22 (by decide) (Or.inl q1972) (Or.inl rfl) (Or.inl rfl) ⟨rfl, rfl⟩ ?_
  refine xr_aload_n 0 (r := (some v0)) F dX9_copy_52 rfl ?_
  refine xr_aload_n 1 (r := (some a0)) F dX9_copy_53 rfl ?_
  refine xr_gI (r := (some a0)) (ref := "ReserveLedger$Ledger") F dX9_copy_54 (C := RX9) (T := TX9) (N := 7) rfl (by decide) (Or.inl q1975) (Or.inl rfl) (fun v54 => ?_)
  refine xr_put (r := (some v0)) (ref := "ReserveLedger$Ledger") F dX9_copy_57 xk_22 (by decide) (Or.inl q1975) (Or.inl rfl) (Or.inl rfl) ⟨rfl, rfl⟩ ?_
  refine xr_aload_n 0 (r := (some v0)) F dX9_copy_60 rfl ?_
  exact xr_aret (v := (some v0)) F dX9_copy_61 (Or.inl ⟨_, rfl⟩)
theorem fX6_copy_p81_ok {x : xC} (F : xF x RX6 cX6_copy (some (.object "ReserveLedger$Herd"))) (hnL : xnL x = 4) (hRm : ∃ dc ds, x.2.2.2.1 = { frames := 6, cells := dc, slots := ds, locals := 154 }) (hno : ∀ pc, xNo x pc) (hmn : xmn x = "copy" ∧ xmy x yX6_copy) : ∀ (n : Nat) (l1 : Nat) (l2 : Option Nat), xI x xeR 81 [(1, va_rf (some l1)), (2, va_rf l2)] [] (fX6_copy_p81 n l1 l2) := by
  intro n
  induction n with
  | zero => intro l1 l2; exact xI.stuck
  | succ n ih =>
    intro l1 l2
    unfold fX6_copy_p81
    refine xr_aload_n 1 (r := l2) F dX6_copy_81 rfl ?_
    refine xr_FI (x0 := ⟨"java/util/Iterator", "hasNext", "()Z"⟩) (y := yJ41_hasNext) (As := []) (r := l2) F (hno _) dX6_copy_82 (fun z => fJ41_hasNext_m (xFG F) z) rfl (ci := 12) (C := RJ41) (T := TJ41) rfl q847 q3050 q845 q843 q826 q825 q846 q844 q842 (xroom hRm (Nat.le_of_ble_eq_true rfl) (Nat.le_of_ble_eq_true rfl)) ⟨by decide, by decide⟩ n_J41_hasNext rfl (xcat (Nat.le_of_ble_eq_true rfl)) (fun v82 => ?_)
    refine xr_if_eq 111 F dX6_copy_87 rfl ?_ ?_
    · refine xr_aload_n 0 (r := (some l1)) F dX6_copy_111 rfl ?_
      exact xr_aret (v := (some l1)) F dX6_copy_112 (Or.inl ⟨_, rfl⟩)
    · refine xr_aload_n 1 (r := l2) F dX6_copy_90 rfl ?_
      refine xr_FR (x0 := ⟨"java/util/Iterator", "next", "()Ljava/lang/Object;"⟩) (y := yJ41_next) (As := []) (r := l2) F (hno _) dX6_copy_91 (fun z => fJ41_next_m (xFG F) z) rfl (ci := 12) (C := RJ41) (T := TJ41) rfl q1053 q3052 q1051 q1049 q885 q884 q1052 q1050 q842 (xroom hRm (Nat.le_of_ble_eq_true rfl) (Nat.le_of_ble_eq_true rfl)) ⟨by decide, by decide⟩ n_J41_next rfl (xcat (Nat.le_of_ble_eq_true rfl)) (fun v91 => ?_)
      refine xr_castE (ci := 37) (r := v91) F dX6_copy_96 q3053 rfl ?_
      refine xs_a_n [0, 1] F dX6_copy_99 hnL rfl rfl (xk1 rfl rfl (xk2 rfl (xrf_cat _) xk0)) ?_
      refine xr_aload_n 1 (r := (some l1)) F dX6_copy_100 rfl ?_
      refine xr_gR (r := (some l1)) (ref := "ReserveLedger$Herd") F dX6_copy_101 (C := RX6) (T := TX6) (N := 8) rfl (by decide) (Or.inl q2054) (Or.inl rfl) (fun v101 => ?_)
      refine xr_aload_n 0 (r := v91) F dX6_copy_104 rfl ?_
      refine xr_VV (y := yJ27_addLast) (As := [va_rf v91]) (r := v101) F (hno _) dX6_copy_105 (fun z => fJ27_addLast_m (xFG F) z v91) (Or.inl rfl) (ci := 23) (C := RJ27) (T := TJ27) rfl q3057 q3054 q3055 q3056 (xroom hRm (Nat.le_of_ble_eq_true rfl) (Nat.le_of_ble_eq_true rfl)) ⟨by decide, by decide⟩ n_J27_addLast rfl (xcat (Nat.le_of_ble_eq_true rfl)) (fun _ => ?_)
      refine xr_goto 81 F dX6_copy_108 rfl ?_
      exact xI.sub [1, 2] rfl (ih l1 l2)
theorem fX6_copy_m {l : Launch} {D : xD} {s0 : State} {b0 : Nat} {Γ : Nat → Option Nat} (G : xG l D s0 b0 Γ) (a0 : Nat) : xMeth l D s0 Γ yX6_copy (Cond.code yX6_copy cX6_copy 4 (some (.object "ReserveLedger$Herd"))) (6) (154) [.ref a0] xeR (fX6_copy a0) := by
  refine xMeth.of (lv0 := [(0, va_rf (some a0))]) G (by decide +kernel) (Or.inl rfl) (Nat.le_of_ble_eq_true rfl) rfl (fun x F hnL hRm hmn ht e1 e2 e3 e4 => ?_)
  have hno : ∀ pc, xNo x pc := fun pc z hz => by rw [ht.1 rfl] at hz; cases hz
  unfold fX6_copy
  refine xr_new F dX6_copy_0 xk_19 xdf_19 q3038 q1861 q158 (fun v0 => ?_)
  refine xr_dup F dX6_copy_3 (xrf_cat _) ?_
  refine xr_aload_n 0 (r := (some a0)) F dX6_copy_4 rfl ?_
  refine xr_gR (r := (some a0)) (ref := "ReserveLedger$Herd") F dX6_copy_5 (C := RX6) (T := TX6) (N := 8) rfl (by decide) (Or.inl q2036) (Or.inl rfl) (fun v5 => ?_)
  refine xr_IV (y := yX6_init) (As := [va_rf v5]) F (hno _) dX6_copy_8 (fX6_init_m (xFG F) v0 v5) rfl rfl q1951 (Or.inl q3039) q1950 (xroom hRm (Nat.le_of_ble_eq_true rfl) (Nat.le_of_ble_eq_true rfl)) ⟨by decide, by decide⟩ n_X6_init rfl (xcat (Nat.le_of_ble_eq_true rfl)) (fun _ => ?_)
  refine xs_a_n [0] F dX6_copy_11 hnL rfl rfl (xk2 rfl (xrf_cat _) xk0) ?_
  refine xr_aload_n 1 (r := (some a0)) F dX6_copy_12 rfl ?_
  refine xr_gR (r := (some a0)) (ref := "ReserveLedger$Herd") F dX6_copy_13 (C := RX6) (T := TX6) (N := 8) rfl (by decide) (Or.inl q2039) (Or.inl rfl) (fun v13 => ?_)
  refine xr_iconst (0 : Int32) F dX6_copy_16 rfl ?_
  refine xr_aload_n 0 (r := (some v0)) F dX6_copy_17 rfl ?_
  refine xr_gR (r := (some v0)) (ref := "ReserveLedger$Herd") F dX6_copy_18 (C := RX6) (T := TX6) (N := 8) rfl (by decide) (Or.inl q2039) (Or.inl rfl) (fun v18 => ?_)
  refine xr_iconst (0 : Int32) F dX6_copy_21 rfl ?_
  refine xr_bipush (13 : Int32) F dX6_copy_22 rfl ?_
  refine xr_cpI (t := 1) (ty := .int) (sr := v13) (dr := v18) F dX6_copy_24 rfl rfl q3040 q348 q347 q137 (xroom hRm (Nat.le_of_ble_eq_true rfl) (Nat.le_of_ble_eq_true rfl)) (xcat (Nat.le_of_ble_eq_true rfl)) ?_
  refine xr_aload_n 0 (r := (some v0)) F dX6_copy_27 rfl ?_
  refine xr_gR (r := (some v0)) (ref := "ReserveLedger$Herd") F dX6_copy_28 (C := RX6) (T := TX6) (N := 8) rfl (by decide) (Or.inl q2042) (Or.inl rfl) (fun v28 => ?_)
  refine xr_aload_n 1 (r := (some a0)) F dX6_copy_31 rfl ?_
  refine xr_gR (r := (some a0)) (ref := "ReserveLedger$Herd") F dX6_copy_32 (C := RX6) (T := TX6) (N := 8) rfl (by decide) (Or.inl q2042) (Or.inl rfl) (fun v32 => ?_)
  refine xr_VV (y := yX10_become) (As := [va_rf v32]) (r := v28) F (hno _) dX6_copy_35 (fun z => fX10_become_m (xFG F) z v32) (Or.inl rfl) (ci := 24) (C := RX10) (T := TX10) rfl q2924 q3041 q2922 q2923 (xroom hRm (Nat.le_of_ble_eq_true rfl) (Nat.le_of_ble_eq_true rfl)) ⟨by decide, by decide⟩ n_X10_become rfl (xcat (Nat.le_of_ble_eq_true rfl)) (fun _ => ?_)
  refine xr_aload_n 0 (r := (some v0)) F dX6_copy_38 rfl ?_
  refine xr_aload_n 1 (r := (some a0)) F dX6_copy_39 rfl ?_
  refine xr_gI (r := (some a0)) (ref := "ReserveLedger$Herd") F dX6_copy_40 (C := RX6) (T := TX6) (N := 8) rfl (by decide) (Or.inl q2045) (Or.inl rfl) (fun v40 => ?_)
  refine xr_put (r := (some v0)) (ref := "ReserveLedger$Herd") F dX6_copy_43 xk_19 (by decide) (Or.inl q2045) (Or.inl rfl) (Or.inl rfl) ⟨rfl, rfl⟩ ?_
  refine xr_aload_n 0 (r := (some v0)) F dX6_copy_46 rfl ?_
  refine xr_aload_n 1 (r := (some a0)) F dX6_copy_47 rfl ?_
  refine xr_gI (r := (some a0)) (ref := "ReserveLedger$Herd") F dX6_copy_48 (C := RX6) (T := TX6) (N := 8) rfl (by decide) (Or.inl q2048) (Or.inl rfl) (fun v48 => ?_)
  refine xr_put (r := (some v0)) (ref := "ReserveLedger$Herd") F dX6_copy_51 xk_19 (by decide) (Or.inl q2048) (Or.inl rfl) (Or.inl rfl) ⟨rfl, rfl⟩ ?_
  refine xr_aload_n 0 (r := (some v0)) F dX6_copy_54 rfl ?_
  refine xr_aload_n 1 (r := (some a0)) F dX6_copy_55 rfl ?_
  refine xr_gI (r := (some a0)) (ref := "ReserveLedger$Herd") F dX6_copy_56 (C := RX6) (T := TX6) (N := 8) rfl (by decide) (Or.inl q2050) (Or.inl rfl) (fun v56 => ?_)
  refine xr_pN (r := (some v0)) (ref := "ReserveLedger$Herd") F dX6_copy_59 xk_19 (by decide) (Or.inl q2050) (Or.inl rfl) (Or.inl rfl) ?_
  refine xr_aload_n 0 (r := (some v0)) F dX6_copy_62 rfl ?_
  refine xr_aload_n 1 (r := (some a0)) F dX6_copy_63 rfl ?_
  refine xr_gR (r := (some a0)) (ref := "ReserveLedger$Herd") F dX6_copy_64 (C := RX6) (T := TX6) (N := 8) rfl (by decide) (Or.inl q2052) (Or.inl rfl) (fun v64 => ?_)
  refine xr_VR (y := yX9_copy) (As := []) (r := v64) F (hno _) dX6_copy_67 (fun z => fX9_copy_m (xFG F) z) (Or.inl rfl) (ci := 22) (C := RX9) (T := TX9) rfl q3045 q3042 q3043 q3044 (xroom hRm (Nat.le_of_ble_eq_true rfl) (Nat.le_of_ble_eq_true rfl)) ⟨by decide, by decide⟩ n_X9_copy rfl (xcat (Nat.le_of_ble_eq_true rfl)) (fun v67 => ?_)
  refine xr_put (r := (some v0)) (ref := "ReserveLedger$Herd") F dX6_copy_70 xk_19 (by decide) (Or.inl q2052) (Or.inl rfl) (Or.inl rfl) (xr_rf _ _) ?_
  refine xr_aload_n 1 (r := (some a0)) F dX6_copy_73 rfl ?_
  refine xr_gR (r := (some a0)) (ref := "ReserveLedger$Herd") F dX6_copy_74 (C := RX6) (T := TX6) (N := 8) rfl (by decide) (Or.inl q2054) (Or.inl rfl) (fun v74 => ?_)
  refine xr_VR (y := yJ27_iterator) (As := []) (r := v74) F (hno _) dX6_copy_77 (fun z => fJ27_iterator_m (xFG F) z) (Or.inl rfl) (ci := 23) (C := RJ27) (T := TJ27) rfl q1181 q3048 q1179 q3999 (xroom hRm (Nat.le_of_ble_eq_true rfl) (Nat.le_of_ble_eq_true rfl)) ⟨by decide, by decide⟩ n_J27_iterator rfl (xcat (Nat.le_of_ble_eq_true rfl)) (fun v77 => ?_)
  refine xs_a_n [0] F dX6_copy_80 hnL rfl rfl (xk2 rfl (xrf_cat _) xk0) ?_
  exact xI.sub [1, 0] rfl (fX6_copy_p81_ok F hnL hRm hno hmn xFU v0 v77)
theorem fX2_copy_p62_ok {x : xC} (F : xF x RX2 cX2_copy (some (.object "ReserveLedger$State"))) (hnL : xnL x = 4) (hRm : ∃ dc ds, x.2.2.2.1 = { frames := 7, cells := dc, slots := ds, locals := 177 }) (hno : ∀ pc, xNo x pc) (hmn : xmn x = "copy" ∧ xmy x yX2_copy) : ∀ (n : Nat) (l0 : Nat) (l1 : Nat) (l2 : Option Nat), xI x xeR 62 [(0, va_rf (some l0)), (1, va_rf (some l1)), (2, va_rf l2)] [] (fX2_copy_p62 n l0 l1 l2) := by
  intro n
  induction n with
  | zero => intro l0 l1 l2; exact xI.stuck
  | succ n ih =>
    intro l0 l1 l2
    unfold fX2_copy_p62
    refine xr_aload_n 2 (r := l2) F dX2_copy_62 rfl ?_
    refine xr_FI (x0 := ⟨"java/util/Iterator", "hasNext", "()Z"⟩) (y := yJ24_hasNext) (As := []) (r := l2) F (hno _) dX2_copy_63 (fun z => fJ24_hasNext_m (xFG F) z) rfl (ci := 9) (C := RJ24) (T := TJ24) rfl q862 q2856 q860 q858 q826 q825 q861 q859 q857 (xroom hRm (Nat.le_of_ble_eq_true rfl) (Nat.le_of_ble_eq_true rfl)) ⟨by decide, by decide⟩ n_J24_hasNext rfl (xcat (Nat.le_of_ble_eq_true rfl)) (fun v63 => ?_)
    refine xr_if_eq 93 F dX2_copy_68 rfl ?_ ?_
    · refine xr_aload_n 1 (r := (some l1)) F dX2_copy_93 rfl ?_
      refine xr_aload_n 0 (r := (some l0)) F dX2_copy_94 rfl ?_
      refine xr_gI (r := (some l0)) (ref := "ReserveLedger$State") F dX2_copy_95 (C := RX2) (T := TX2) (N := 5) rfl (by decide) (Or.inl q588) (Or.inl rfl) (fun v95 => ?_)
      refine xr_put (r := (some l1)) (ref := "ReserveLedger$State") F dX2_copy_98 xk_1 (by decide) (Or.inl q588) (Or.inl rfl) (Or.inl rfl) ⟨rfl, rfl⟩ ?_
      refine xr_aload_n 1 (r := (some l1)) F dX2_copy_101 rfl ?_
      refine xr_aload_n 0 (r := (some l0)) F dX2_copy_102 rfl ?_
      refine xr_gI (r := (some l0)) (ref := "ReserveLedger$State") F dX2_copy_103 (C := RX2) (T := TX2) (N := 5) rfl (by decide) (Or.inl q591) (Or.inl rfl) (fun v103 => ?_)
      refine xr_put (r := (some l1)) (ref := "ReserveLedger$State") F dX2_copy_106 xk_1 (by decide) (Or.inl q591) (Or.inl rfl) (Or.inl rfl) ⟨rfl, rfl⟩ ?_
      refine xr_aload_n 1 (r := (some l1)) F dX2_copy_109 rfl ?_
      refine xr_aload_n 0 (r := (some l0)) F dX2_copy_110 rfl ?_
      refine xr_gI (r := (some l0)) (ref := "ReserveLedger$State") F dX2_copy_111 (C := RX2) (T := TX2) (N := 5) rfl (by decide) (Or.inl q593) (Or.inl rfl) (fun v111 => ?_)
      refine xr_put (r := (some l1)) (ref := "ReserveLedger$State") F dX2_copy_114 xk_1 (by decide) (Or.inl q593) (Or.inl rfl) (Or.inl rfl) ⟨rfl, rfl⟩ ?_
      refine xr_aload_n 1 (r := (some l1)) F dX2_copy_117 rfl ?_
      exact xr_aret (v := (some l1)) F dX2_copy_118 (Or.inl ⟨_, rfl⟩)
    · refine xr_aload_n 2 (r := l2) F dX2_copy_71 rfl ?_
      refine xr_FR (x0 := ⟨"java/util/Iterator", "next", "()Ljava/lang/Object;"⟩) (y := yJ24_next) (As := []) (r := l2) F (hno _) dX2_copy_72 (fun z => fJ24_next_m (xFG F) z) rfl (ci := 9) (C := RJ24) (T := TJ24) rfl q1090 q2858 q1088 q1086 q885 q884 q1089 q1087 q857 (xroom hRm (Nat.le_of_ble_eq_true rfl) (Nat.le_of_ble_eq_true rfl)) ⟨by decide, by decide⟩ n_J24_next rfl (xcat (Nat.le_of_ble_eq_true rfl)) (fun v72 => ?_)
      refine xr_castE (ci := 38) (r := v72) F dX2_copy_77 q2859 rfl ?_
      refine xs_a_n [0, 1, 2] F dX2_copy_80 hnL rfl rfl (xk1 rfl rfl (xk1 rfl rfl (xk2 rfl (xrf_cat _) xk0))) ?_
      refine xr_aload_n 2 (r := (some l1)) F dX2_copy_81 rfl ?_
      refine xr_gR (r := (some l1)) (ref := "ReserveLedger$State") F dX2_copy_82 (C := RX2) (T := TX2) (N := 5) rfl (by decide) (Or.inl q586) (Or.inl rfl) (fun v82 => ?_)
      refine xr_aload_n 0 (r := v72) F dX2_copy_85 rfl ?_
      refine xr_VI (y := yJ19_add) (As := [va_rf v72]) (r := v82) F (hno _) dX2_copy_86 (fun z => fJ19_add_m (xFG F) z v72) (Or.inl rfl) (ci := 6) (C := RJ19) (T := TJ19) rfl q2111 q3078 q2109 q4000 (xroom hRm (Nat.le_of_ble_eq_true rfl) (Nat.le_of_ble_eq_true rfl)) ⟨by decide, by decide⟩ n_J19_add rfl (xcat (Nat.le_of_ble_eq_true rfl)) (fun v86 => ?_)
      refine xr_pop F dX2_copy_89 rfl ?_
      refine xr_goto 62 F dX2_copy_90 rfl ?_
      exact xI.sub [1, 2, 3] rfl (ih l0 l1 l2)
theorem fX2_copy_p18_ok {x : xC} (F : xF x RX2 cX2_copy (some (.object "ReserveLedger$State"))) (hnL : xnL x = 4) (hRm : ∃ dc ds, x.2.2.2.1 = { frames := 7, cells := dc, slots := ds, locals := 177 }) (hno : ∀ pc, xNo x pc) (hmn : xmn x = "copy" ∧ xmy x yX2_copy) : ∀ (n : Nat) (l0 : Nat) (l1 : Nat) (l2 : Option Nat), xI x xeR 18 [(0, va_rf (some l0)), (1, va_rf (some l1)), (2, va_rf l2)] [] (fX2_copy_p18 n l0 l1 l2) := by
  intro n
  induction n with
  | zero => intro l0 l1 l2; exact xI.stuck
  | succ n ih =>
    intro l0 l1 l2
    unfold fX2_copy_p18
    refine xr_aload_n 2 (r := l2) F dX2_copy_18 rfl ?_
    refine xr_FI (x0 := ⟨"java/util/Iterator", "hasNext", "()Z"⟩) (y := yJ20_hasNext) (As := []) (r := l2) F (hno _) dX2_copy_19 (fun z => fJ20_hasNext_m (xFG F) z) rfl (ci := 7) (C := RJ20) (T := TJ20) rfl q853 q2856 q851 q849 q826 q825 q852 q850 q848 (xroom hRm (Nat.le_of_ble_eq_true rfl) (Nat.le_of_ble_eq_true rfl)) ⟨by decide, by decide⟩ n_J20_hasNext rfl (xcat (Nat.le_of_ble_eq_true rfl)) (fun v19 => ?_)
    refine xr_if_eq 54 F dX2_copy_24 rfl ?_ ?_
    · refine xr_aload_n 0 (r := (some l0)) F dX2_copy_54 rfl ?_
      refine xr_gR (r := (some l0)) (ref := "ReserveLedger$State") F dX2_copy_55 (C := RX2) (T := TX2) (N := 5) rfl (by decide) (Or.inl q586) (Or.inl rfl) (fun v55 => ?_)
      refine xr_UR (x0 := ⟨"java/util/LinkedList", "iterator", "()Ljava/util/Iterator;"⟩) (y := yJ18_iterator) (As := []) (r := v55) F (hno _) dX2_copy_58 (fun z => fJ18_iterator__J19_m (xFG F) z) rfl (ci := 6) (C := RJ19) (T := TJ19) rfl q720 q2851 q718 q2854 q2852 (Or.inr q2853) (xroom hRm (Nat.le_of_ble_eq_true rfl) (Nat.le_of_ble_eq_true rfl)) ⟨by decide, by decide⟩ n_J18_iterator rfl (xcat (Nat.le_of_ble_eq_true rfl)) (fun v58 => ?_)
      refine xs_a_n [0, 1] F dX2_copy_61 hnL rfl rfl (xk1 rfl rfl (xk2 rfl (xrf_cat _) xk0)) ?_
      exact xI.sub [1, 2, 0] rfl (fX2_copy_p62_ok F hnL hRm hno hmn xFU l0 l1 v58)
    · refine xr_aload_n 2 (r := l2) F dX2_copy_27 rfl ?_
      refine xr_FR (x0 := ⟨"java/util/Iterator", "next", "()Ljava/lang/Object;"⟩) (y := yJ20_next) (As := []) (r := l2) F (hno _) dX2_copy_28 (fun z => fJ20_next_m (xFG F) z) rfl (ci := 7) (C := RJ20) (T := TJ20) rfl q1075 q2858 q1073 q1071 q885 q884 q1074 q1072 q848 (xroom hRm (Nat.le_of_ble_eq_true rfl) (Nat.le_of_ble_eq_true rfl)) ⟨by decide, by decide⟩ n_J20_next rfl (xcat (Nat.le_of_ble_eq_true rfl)) (fun v28 => ?_)
      refine xr_castE (ci := 19) (r := v28) F dX2_copy_33 q3033 rfl ?_
      refine xs_a_n [0, 1, 2] F dX2_copy_36 hnL rfl rfl (xk1 rfl rfl (xk1 rfl rfl (xk2 rfl (xrf_cat _) xk0))) ?_
      refine xr_aload_n 2 (r := (some l1)) F dX2_copy_37 rfl ?_
      refine xr_gR (r := (some l1)) (ref := "ReserveLedger$State") F dX2_copy_38 (C := RX2) (T := TX2) (N := 5) rfl (by decide) (Or.inl q583) (Or.inl rfl) (fun v38 => ?_)
      refine xr_aload_n 0 (r := v28) F dX2_copy_41 rfl ?_
      refine xr_VR (y := yX6_copy) (As := []) (r := v28) F (hno _) dX2_copy_42 (fun z => fX6_copy_m (xFG F) z) (Or.inl rfl) (ci := 19) (C := RX6) (T := TX6) rfl q3037 q3034 q3035 q3036 (xroom hRm (Nat.le_of_ble_eq_true rfl) (Nat.le_of_ble_eq_true rfl)) ⟨by decide, by decide⟩ n_X6_copy rfl (xcat (Nat.le_of_ble_eq_true rfl)) (fun v42 => ?_)
      refine xr_FI (x0 := ⟨"java/util/List", "add", "(Ljava/lang/Object;)Z"⟩) (y := yJ2_add) (As := [va_rf v42]) (r := v38) F (hno _) dX2_copy_45 (fun z => fJ2_add_m (xFG F) z v42) rfl (ci := 2) (C := RJ2) (T := TJ2) rfl q2081 q3077 q2079 q2077 q2076 q2075 q2080 q2078 q688 (xroom hRm (Nat.le_of_ble_eq_true rfl) (Nat.le_of_ble_eq_true rfl)) ⟨by decide, by decide⟩ n_J2_add rfl (xcat (Nat.le_of_ble_eq_true rfl)) (fun v45 => ?_)
      refine xr_pop F dX2_copy_50 rfl ?_
      refine xr_goto 18 F dX2_copy_51 rfl ?_
      exact xI.sub [1, 2, 3] rfl (ih l0 l1 l2)
theorem fX2_copy_m {l : Launch} {D : xD} {s0 : State} {b0 : Nat} {Γ : Nat → Option Nat} (G : xG l D s0 b0 Γ) (a0 : Nat) : xMeth l D s0 Γ yX2_copy (Cond.code yX2_copy cX2_copy 4 (some (.object "ReserveLedger$State"))) (7) (177) [.ref a0] xeR (fX2_copy a0) := by
  refine xMeth.of (lv0 := [(0, va_rf (some a0))]) G (by decide +kernel) (Or.inl rfl) (Nat.le_of_ble_eq_true rfl) rfl (fun x F hnL hRm hmn ht e1 e2 e3 e4 => ?_)
  have hno : ∀ pc, xNo x pc := fun pc z hz => by rw [ht.1 rfl] at hz; cases hz
  unfold fX2_copy
  refine xr_new F dX2_copy_0 xk_1 xdf_1 q3029 q203 q122 (fun v0 => ?_)
  refine xr_dup F dX2_copy_3 (xrf_cat _) ?_
  refine xr_IV (y := yX2_init) (As := []) F (hno _) dX2_copy_4 (fX2_init_m (xFG F) v0) rfl rfl q206 (Or.inl q3030) q205 (xroom hRm (Nat.le_of_ble_eq_true rfl) (Nat.le_of_ble_eq_true rfl)) ⟨by decide, by decide⟩ n_X2_init rfl (xcat (Nat.le_of_ble_eq_true rfl)) (fun _ => ?_)
  refine xs_a_n [0] F dX2_copy_7 hnL rfl rfl (xk2 rfl (xrf_cat _) xk0) ?_
  refine xr_aload_n 1 (r := (some a0)) F dX2_copy_8 rfl ?_
  refine xr_gR (r := (some a0)) (ref := "ReserveLedger$State") F dX2_copy_9 (C := RX2) (T := TX2) (N := 5) rfl (by decide) (Or.inl q583) (Or.inl rfl) (fun v9 => ?_)
  refine xr_FR (x0 := ⟨"java/util/List", "iterator", "()Ljava/util/Iterator;"⟩) (y := yJ2_iterator) (As := []) (r := v9) F (hno _) dX2_copy_12 (fun z => fJ2_iterator_m (xFG F) z) rfl (ci := 2) (C := RJ2) (T := TJ2) rfl q693 q3032 q691 q689 q687 q686 q692 q690 q688 (xroom hRm (Nat.le_of_ble_eq_true rfl) (Nat.le_of_ble_eq_true rfl)) ⟨by decide, by decide⟩ n_J2_iterator rfl (xcat (Nat.le_of_ble_eq_true rfl)) (fun v12 => ?_)
  refine xs_a_n [0, 1] F dX2_copy_17 hnL rfl rfl (xk2 rfl (xrf_cat _) (xk1 rfl rfl xk0)) ?_
  exact xI.sub [2, 1, 0] rfl (fX2_copy_p18_ok F hnL hRm hno hmn xFU a0 v0 v12)
