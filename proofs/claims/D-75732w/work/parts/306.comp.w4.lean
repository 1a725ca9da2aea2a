theorem fX1_checkThere_m {l : Launch} {D : xD} {s0 : State} {b0 : Nat} {Γ : Nat → Option Nat} (G : xG l D s0 b0 Γ) (p0 : Int32) : xMeth l D s0 Γ yX1_checkThere (Cond.code yX1_checkThere cX1_checkThere 1 none) (6) (89) [.int p0] xeV (fX1_checkThere p0) := by
  refine xMeth.of (lv0 := [(0, .int p0)]) G (by decide +kernel) (Or.inl rfl) (Nat.le_of_ble_eq_true rfl) rfl (fun x F hnL hRm hmn ht e1 e2 e3 e4 => ?_)
  have hno : ∀ pc, xNo x pc := fun pc z hz => by rw [ht.1 rfl] at hz; cases hz
  unfold fX1_checkThere
  refine xr_iload_n 0 F dX1_checkThere_0 rfl ?_
  refine xr_if_ne 12 F dX1_checkThere_1 rfl ?_ ?_
  · refine xr_mk (names := xnms) F dX1_checkThere_4 dX1_checkThere_7 dX1_checkThere_8 rfl (by decide +kernel) (by decide +kernel) q2476 q154 xat_21 xag_21 (xao_21 19 q2476) (xroom hRm (Nat.le_of_ble_eq_true rfl) (Nat.le_of_ble_eq_true rfl)) (xcat (Nat.le_of_ble_eq_true rfl)) (fun v4 => ?_)
    exact xr_throw (r := (some v4)) F dX1_checkThere_11 (hno _)
  · exact xr_vret F dX1_checkThere_12
theorem fJ16_init__J17_m {l : Launch} {D : xD} {s0 : State} {b0 : Nat} {Γ : Nat → Option Nat} (G : xG l D s0 b0 Γ) (a0 : Nat) : xMeth l D s0 Γ yJ16_init (Cond.code yJ16_init cJ16_init 1 none) (1) (20) [.ref a0] xeV (fJ16_init__J17 a0) := by
  refine xMeth.of (lv0 := [(0, va_rf (some a0))]) G (by decide +kernel) (Or.inl rfl) (Nat.le_of_ble_eq_true rfl) rfl (fun x F hnL hRm hmn ht e1 e2 e3 e4 => ?_)
  have hno : ∀ pc, xNo x pc := fun pc z hz => by rw [ht.1 rfl] at hz; cases hz
  unfold fJ16_init__J17
  refine xr_aload_n 0 (r := (some a0)) F dJ16_init_0 rfl ?_
  refine xr_obj F dJ16_init_1 q1317 q200 (q_objcode) (xroom hRm (Nat.le_of_ble_eq_true rfl) (Nat.le_of_ble_eq_true rfl)) (xcat (Nat.le_of_ble_eq_true rfl)) ?_
  exact xr_vret F dJ16_init_4
theorem fJ17_init_m {l : Launch} {D : xD} {s0 : State} {b0 : Nat} {Γ : Nat → Option Nat} (G : xG l D s0 b0 Γ) (a0 : Nat) (p0 : Int32) : xMeth l D s0 Γ yJ17_init (Cond.code yJ17_init cJ17_init 2 none) (2) (40) [.ref a0, .int p0] xeV (fJ17_init a0 p0) := by
  refine xMeth.of (lv0 := [(0, va_rf (some a0)), (1, .int p0)]) G (by decide +kernel) (Or.inl rfl) (Nat.le_of_ble_eq_true rfl) rfl (fun x F hnL hRm hmn ht e1 e2 e3 e4 => ?_)
  have hno : ∀ pc, xNo x pc := fun pc z hz => by rw [ht.1 rfl] at hz; cases hz
  unfold fJ17_init
  refine xr_aload_n 0 (r := (some a0)) F dJ17_init_0 rfl ?_
  refine xr_IV (y := yJ16_init) (As := []) F (hno _) dJ17_init_1 (fJ16_init__J17_m (xFG F) a0) rfl rfl q1316 (Or.inl q1314) q1315 (xroom hRm (Nat.le_of_ble_eq_true rfl) (Nat.le_of_ble_eq_true rfl)) ⟨by decide, by decide⟩ n_J16_init rfl (xcat (Nat.le_of_ble_eq_true rfl)) (fun _ => ?_)
  refine xr_aload_n 0 (r := (some a0)) F dJ17_init_4 rfl ?_
  refine xr_iload_n 1 F dJ17_init_5 rfl ?_
  refine xr_put (r := (some a0)) (ref := "java/lang/Integer") F dJ17_init_6 xk_15 (by decide) (Or.inl q1318) (Or.inl rfl) (Or.inr ⟨rfl, hmn.1, rfl, q1318⟩) ⟨rfl, rfl⟩ ?_
  exact xr_vret F dJ17_init_9
theorem fJ17_valueOf_p23_ok {x : xC} (F : xF x RJ17 cJ17_valueOf (some (.object "java/lang/Integer"))) (hnL : xnL x = 1) (hRm : ∃ dc ds, x.2.2.2.1 = { frames := 3, cells := dc, slots := ds, locals := 61 }) (hno : ∀ pc, xNo x pc) (hmn : xmn x = "valueOf" ∧ xmy x yJ17_valueOf) (l0 : Int32) : xI x xeR 23 [(0, .int l0)] [] (fJ17_valueOf_p23 l0) := by
  unfold fJ17_valueOf_p23
  refine xr_new F dJ17_valueOf_23 xk_15 xdf_15 q1309 q1310 q141 (fun v23 => ?_)
  refine xr_dup F dJ17_valueOf_26 (xrf_cat _) ?_
  refine xr_iload_n 0 F dJ17_valueOf_27 rfl ?_
  refine xr_IV (y := yJ17_init) (As := [.int l0]) F (hno _) dJ17_valueOf_28 (fJ17_init_m (xFG F) v23 l0) rfl rfl q1313 (Or.inl q1311) q1312 (xroom hRm (Nat.le_of_ble_eq_true rfl) (Nat.le_of_ble_eq_true rfl)) ⟨by decide, by decide⟩ n_J17_init rfl (xcat (Nat.le_of_ble_eq_true rfl)) (fun _ => ?_)
  exact xr_aret (v := (some v23)) F dJ17_valueOf_31 (Or.inl ⟨_, rfl⟩)
theorem fJ17_valueOf_m {l : Launch} {D : xD} {s0 : State} {b0 : Nat} {Γ : Nat → Option Nat} (G : xG l D s0 b0 Γ) (p0 : Int32) : xMeth l D s0 Γ yJ17_valueOf (Cond.code yJ17_valueOf cJ17_valueOf 1 (some (.object "java/lang/Integer"))) (3) (61) [.int p0] xeR (fJ17_valueOf p0) := by
  refine xMeth.of (lv0 := [(0, .int p0)]) G (by decide +kernel) (Or.inl rfl) (Nat.le_of_ble_eq_true rfl) rfl (fun x F hnL hRm hmn ht e1 e2 e3 e4 => ?_)
  have hno : ∀ pc, xNo x pc := fun pc z hz => by rw [ht.1 rfl] at hz; cases hz
  unfold fJ17_valueOf
  refine xr_iload_n 0 F dJ17_valueOf_0 rfl ?_
  refine xr_bipush (-128 : Int32) F dJ17_valueOf_1 rfl ?_
  refine xr_icmp_lt 23 F dJ17_valueOf_3 rfl ?_ ?_
  · exact xI.sub [0] rfl (fJ17_valueOf_p23_ok F hnL hRm hno hmn p0)
  · refine xr_iload_n 0 F dJ17_valueOf_6 rfl ?_
    refine xr_gsi (k := 0) F dJ17_valueOf_7 rfl q1305 ?_
    refine xr_icmp_gt 23 F dJ17_valueOf_10 rfl ?_ ?_
    · exact xI.sub [0] rfl (fJ17_valueOf_p23_ok F hnL hRm hno hmn p0)
    · refine xr_gs (k := 13) F dJ17_valueOf_13 rfl q1307 (fun v13 => ?_)
      refine xr_iload_n 0 F dJ17_valueOf_16 rfl ?_
      refine xr_sipush (128 : Int32) F dJ17_valueOf_17 rfl ?_
      refine xr_iadd F dJ17_valueOf_20 ?_
      refine xr_aald (r := v13) F dJ17_valueOf_21 (fun v21 => ?_)
      exact xr_aret (v := v21) F dJ17_valueOf_22 (Or.inl ⟨_, rfl⟩)
theorem fJ17_compare_m {l : Launch} {D : xD} {s0 : State} {b0 : Nat} {Γ : Nat → Option Nat} (G : xG l D s0 b0 Γ) (p0 : Int32) (p1 : Int32) : xMeth l D s0 Γ yJ17_compare (Cond.code yJ17_compare cJ17_compare 2 (some .int)) (1) (12) [.int p0, .int p1] xeI (fJ17_compare p0 p1) := by
  refine xMeth.of (lv0 := [(0, .int p0), (1, .int p1)]) G (by decide +kernel) (Or.inl rfl) (Nat.le_of_ble_eq_true rfl) rfl (fun x F hnL hRm hmn ht e1 e2 e3 e4 => ?_)
  have hno : ∀ pc, xNo x pc := fun pc z hz => by rw [ht.1 rfl] at hz; cases hz
  unfold fJ17_compare
  refine xr_iload_n 0 F dJ17_compare_0 rfl ?_
  refine xr_iload_n 1 F dJ17_compare_1 rfl ?_
  refine xr_icmp_ge 9 F dJ17_compare_2 rfl ?_ ?_
  · refine xr_iload_n 0 F dJ17_compare_9 rfl ?_
    refine xr_iload_n 1 F dJ17_compare_10 rfl ?_
    refine xr_icmp_ne 18 F dJ17_compare_11 rfl ?_ ?_
    · refine xr_iconst (0 : Int32) F dJ17_compare_14 rfl ?_
      refine xr_goto 19 F dJ17_compare_15 rfl ?_
      exact xr_iret F dJ17_compare_19
    · refine xr_iconst (1 : Int32) F dJ17_compare_18 rfl ?_
      exact xr_iret F dJ17_compare_19
  · refine xr_iconst (-1 : Int32) F dJ17_compare_5 rfl ?_
    refine xr_goto 19 F dJ17_compare_6 rfl ?_
    exact xr_iret F dJ17_compare_19
theorem fJ17_compareTo_2_m {l : Launch} {D : xD} {s0 : State} {b0 : Nat} {Γ : Nat → Option Nat} (G : xG l D s0 b0 Γ) (a0 : Nat) (p0 : Option Nat) : xMeth l D s0 Γ yJ17_compareTo_2 (Cond.code yJ17_compareTo_2 cJ17_compareTo_2 2 (some .int)) (2) (33) [.ref a0, va_rf p0] xeI (fJ17_compareTo_2 a0 p0) := by
  refine xMeth.of (lv0 := [(0, va_rf (some a0)), (1, va_rf p0)]) G (by decide +kernel) (Or.inl rfl) (by simp [lg_sl, xrf_cat, xct_i, xct_l, xct_d, xct_r]) (by simp [lv_args, xrf_cat, xct_i, xct_l, xct_d, xct_r, xrf_some]) (fun x F hnL hRm hmn ht e1 e2 e3 e4 => ?_)
  have hno : ∀ pc, xNo x pc := fun pc z hz => by rw [ht.1 rfl] at hz; cases hz
  unfold fJ17_compareTo_2
  refine xr_aload_n 0 (r := (some a0)) F dJ17_compareTo_2_0 rfl ?_
  refine xr_gI (r := (some a0)) (ref := "java/lang/Integer") F dJ17_compareTo_2_1 (C := RJ17) (T := TJ17) (N := 1) rfl (by decide) (Or.inl q1318) (Or.inl rfl) (fun v1 => ?_)
  refine xr_aload_n 1 (r := p0) F dJ17_compareTo_2_4 rfl ?_
  refine xr_gI (r := p0) (ref := "java/lang/Integer") F dJ17_compareTo_2_5 (C := RJ17) (T := TJ17) (N := 1) rfl (by decide) (Or.inl q1318) (Or.inl rfl) (fun v5 => ?_)
  refine xr_SI (y := yJ17_compare) (As := [.int v1, .int v5]) F (hno _) dJ17_compareTo_2_8 (fJ17_compare_m (xFG F) v1 v5) (Or.inl rfl) q1459 q141 (Or.inl q1457) q1458 (xroom hRm (Nat.le_of_ble_eq_true rfl) (Nat.le_of_ble_eq_true rfl)) ⟨by decide, by decide⟩ n_J17_compare rfl (xcat (Nat.le_of_ble_eq_true rfl)) (fun v8 => ?_)
  exact xr_iret F dJ17_compareTo_2_11
theorem fJ17_compareTo_m {l : Launch} {D : xD} {s0 : State} {b0 : Nat} {Γ : Nat → Option Nat} (G : xG l D s0 b0 Γ) (a0 : Nat) (p0 : Option Nat) : xMeth l D s0 Γ yJ17_compareTo (Cond.code yJ17_compareTo cJ17_compareTo 2 (some .int)) (3) (54) [.ref a0, va_rf p0] xeI (fJ17_compareTo a0 p0) := by
  refine xMeth.of (lv0 := [(0, va_rf (some a0)), (1, va_rf p0)]) G (by decide +kernel) (Or.inl rfl) (by simp [lg_sl, xrf_cat, xct_i, xct_l, xct_d, xct_r]) (by simp [lv_args, xrf_cat, xct_i, xct_l, xct_d, xct_r, xrf_some]) (fun x F hnL hRm hmn ht e1 e2 e3 e4 => ?_)
  have hno : ∀ pc, xNo x pc := fun pc z hz => by rw [ht.1 rfl] at hz; cases hz
  unfold fJ17_compareTo
  refine xr_aload_n 0 (r := (some a0)) F dJ17_compareTo_0 rfl ?_
  refine xr_aload_n 1 (r := p0) F dJ17_compareTo_1 rfl ?_
  refine xr_castE (ci := 15) (r := p0) F dJ17_compareTo_2 q1309 rfl ?_
  refine xr_VI (y := yJ17_compareTo_2) (As := [va_rf p0]) (r := (some a0)) F (hno _) dJ17_compareTo_5 (fun z => fJ17_compareTo_2_m (xFG F) z p0) (Or.inl rfl) (ci := 15) (C := RJ17) (T := TJ17) rfl q1456 q1453 q1454 q1455 (xroom hRm (Nat.le_of_ble_eq_true rfl) (Nat.le_of_ble_eq_true rfl)) ⟨by decide, by decide⟩ n_J17_compareTo_2 rfl (xcat (Nat.le_of_ble_eq_true rfl)) (fun v5 => ?_)
  exact xr_iret F dJ17_compareTo_8
theorem fJ25_requireNonNull_m {l : Launch} {D : xD} {s0 : State} {b0 : Nat} {Γ : Nat → Option Nat} (G : xG l D s0 b0 Γ) (p0 : Option Nat) : xMeth l D s0 Γ yJ25_requireNonNull (Cond.code yJ25_requireNonNull cJ25_requireNonNull 1 (some (.object "java/lang/Object"))) (1) (12) [va_rf p0] xeR (fJ25_requireNonNull p0) := by
  refine xMeth.of (lv0 := [(0, va_rf p0)]) G (by decide +kernel) (Or.inl rfl) (by simp [lg_sl, xrf_cat, xct_i, xct_l, xct_d, xct_r]) (by simp [lv_args, xrf_cat, xct_i, xct_l, xct_d, xct_r, xrf_some]) (fun x F hnL hRm hmn ht e1 e2 e3 e4 => ?_)
  have hno : ∀ pc, xNo x pc := fun pc z hz => by rw [ht.1 rfl] at hz; cases hz
  unfold fJ25_requireNonNull
  refine xr_aload_n 0 (r := p0) F dJ25_requireNonNull_0 rfl ?_
  refine xr_ifnonnull 12 F dJ25_requireNonNull_1 rfl ?_ ?_
  · exact xI.stuck
  · refine xr_aload_n 0 (r := p0) F dJ25_requireNonNull_12 rfl ?_
    exact xr_aret (v := p0) F dJ25_requireNonNull_13 (Or.inl ⟨_, rfl⟩)
theorem fJ31_ordinal__X23_m {l : Launch} {D : xD} {s0 : State} {b0 : Nat} {Γ : Nat → Option Nat} (G : xG l D s0 b0 Γ) (a0 : Nat) : xMeth l D s0 Γ yJ31_ordinal (Cond.code yJ31_ordinal cJ31_ordinal 1 (some .int)) (1) (12) [.ref a0] xeI (fJ31_ordinal__X23 a0) := by
  refine xMeth.of (lv0 := [(0, va_rf (some a0))]) G (by decide +kernel) (Or.inl rfl) (Nat.le_of_ble_eq_true rfl) rfl (fun x F hnL hRm hmn ht e1 e2 e3 e4 => ?_)
  have hno : ∀ pc, xNo x pc := fun pc z hz => by rw [ht.1 rfl] at hz; cases hz
  unfold fJ31_ordinal__X23
  refine xr_aload_n 0 (r := (some a0)) F dJ31_ordinal_0 rfl ?_
  refine xr_gI (r := (some a0)) (ref := "java/lang/Enum") F dJ31_ordinal_1 (C := RX23) (T := TX23) (N := 1) rfl (by decide) (Or.inl q4099) (Or.inl rfl) (fun v1 => ?_)
  exact xr_iret F dJ31_ordinal_4
theorem fJ31_ordinal__X24_m {l : Launch} {D : xD} {s0 : State} {b0 : Nat} {Γ : Nat → Option Nat} (G : xG l D s0 b0 Γ) (a0 : Nat) : xMeth l D s0 Γ yJ31_ordinal (Cond.code yJ31_ordinal cJ31_ordinal 1 (some .int)) (1) (12) [.ref a0] xeI (fJ31_ordinal__X24 a0) := by
  refine xMeth.of (lv0 := [(0, va_rf (some a0))]) G (by decide +kernel) (Or.inl rfl) (Nat.le_of_ble_eq_true rfl) rfl (fun x F hnL hRm hmn ht e1 e2 e3 e4 => ?_)
  have hno : ∀ pc, xNo x pc := fun pc z hz => by rw [ht.1 rfl] at hz; cases hz
  unfold fJ31_ordinal__X24
  refine xr_aload_n 0 (r := (some a0)) F dJ31_ordinal_0 rfl ?_
  refine xr_gI (r := (some a0)) (ref := "java/lang/Enum") F dJ31_ordinal_1 (C := RX24) (T := TX24) (N := 1) rfl (by decide) (Or.inl q4099) (Or.inl rfl) (fun v1 => ?_)
  exact xr_iret F dJ31_ordinal_4
theorem fJ31_ordinal__X25_m {l : Launch} {D : xD} {s0 : State} {b0 : Nat} {Γ : Nat → Option Nat} (G : xG l D s0 b0 Γ) (a0 : Nat) : xMeth l D s0 Γ yJ31_ordinal (Cond.code yJ31_ordinal cJ31_ordinal 1 (some .int)) (1) (12) [.ref a0] xeI (fJ31_ordinal__X25 a0) := by
  refine xMeth.of (lv0 := [(0, va_rf (some a0))]) G (by decide +kernel) (Or.inl rfl) (Nat.le_of_ble_eq_true rfl) rfl (fun x F hnL hRm hmn ht e1 e2 e3 e4 => ?_)
  have hno : ∀ pc, xNo x pc := fun pc z hz => by rw [ht.1 rfl] at hz; cases hz
  unfold fJ31_ordinal__X25
  refine xr_aload_n 0 (r := (some a0)) F dJ31_ordinal_0 rfl ?_
  refine xr_gI (r := (some a0)) (ref := "java/lang/Enum") F dJ31_ordinal_1 (C := RX25) (T := TX25) (N := 1) rfl (by decide) (Or.inl q4099) (Or.inl rfl) (fun v1 => ?_)
  exact xr_iret F dJ31_ordinal_4
theorem fX18_part_m {l : Launch} {D : xD} {s0 : State} {b0 : Nat} {Γ : Nat → Option Nat} (G : xG l D s0 b0 Γ) (a0 : Nat) (p0 : Int32) : xMeth l D s0 Γ yX18_part (Cond.code yX18_part cX18_part 2 (some .int)) (2) (32) [.ref a0, .int p0] xeI (fX18_part a0 p0) := by
  refine xMeth.of (lv0 := [(0, va_rf (some a0)), (1, .int p0)]) G (by decide +kernel) (Or.inl rfl) (Nat.le_of_ble_eq_true rfl) rfl (fun x F hnL hRm hmn ht e1 e2 e3 e4 => ?_)
  have hno : ∀ pc, xNo x pc := fun pc z hz => by rw [ht.1 rfl] at hz; cases hz
  unfold fX18_part
  refine xr_iload_n 1 F dX18_part_0 rfl ?_
  refine xr_if_ne 11 F dX18_part_1 rfl ?_ ?_
  · refine xr_aload_n 0 (r := (some a0)) F dX18_part_4 rfl ?_
    refine xr_gI (r := (some a0)) (ref := "ReserveLedger$Plan") F dX18_part_5 (C := RX18) (T := TX18) (N := 6) rfl (by decide) (Or.inl q3296) (Or.inl rfl) (fun v5 => ?_)
    refine xr_goto 54 F dX18_part_8 rfl ?_
    exact xr_iret F dX18_part_54
  · refine xr_iload_n 1 F dX18_part_11 rfl ?_
    refine xr_iconst (1 : Int32) F dX18_part_12 rfl ?_
    refine xr_icmp_ne 26 F dX18_part_13 rfl ?_ ?_
    · refine xr_aload_n 0 (r := (some a0)) F dX18_part_16 rfl ?_
      refine xr_gR (r := (some a0)) (ref := "ReserveLedger$Plan") F dX18_part_17 (C := RX18) (T := TX18) (N := 6) rfl (by decide) (Or.inl q3298) (Or.inl rfl) (fun v17 => ?_)
      refine xI.alt2 (Kp := ∀ (v20 : Int32), xI x xeI 23 [(0, va_rf (some a0)), (1, .int p0)] [.int v20] _) ?_ (fun hK => xr_UI (x0 := ⟨"ReserveLedger$Kind", "ordinal", "()I"⟩) (y := yJ31_ordinal) (As := []) (r := v17) F (hno _) dX18_part_20 (fun z => fJ31_ordinal__X23_m (xFG F) z) rfl (ci := 50) (C := RX23) (T := TX23) rfl q1360 q1353 q1359 q1356 q1354 (Or.inr q1355) (xroom hRm (Nat.le_of_ble_eq_true rfl) (Nat.le_of_ble_eq_true rfl)) ⟨by decide, by decide⟩ n_J31_ordinal rfl (xcat (Nat.le_of_ble_eq_true rfl)) hK) (fun hK => (xI.alt2 hK (fun hK => xr_UI (x0 := ⟨"ReserveLedger$Kind", "ordinal", "()I"⟩) (y := yJ31_ordinal) (As := []) (r := v17) F (hno _) dX18_part_20 (fun z => fJ31_ordinal__X24_m (xFG F) z) rfl (ci := 51) (C := RX24) (T := TX24) rfl q1360 q1353 q1359 q1357 q1354 (Or.inr q1355) (xroom hRm (Nat.le_of_ble_eq_true rfl) (Nat.le_of_ble_eq_true rfl)) ⟨by decide, by decide⟩ n_J31_ordinal rfl (xcat (Nat.le_of_ble_eq_true rfl)) hK) (fun hK => (xr_UI (x0 := ⟨"ReserveLedger$Kind", "ordinal", "()I"⟩) (y := yJ31_ordinal) (As := []) (r := v17) F (hno _) dX18_part_20 (fun z => fJ31_ordinal__X25_m (xFG F) z) rfl (ci := 52) (C := RX25) (T := TX25) rfl q1360 q1353 q1359 q1358 q1354 (Or.inr q1355) (xroom hRm (Nat.le_of_ble_eq_true rfl) (Nat.le_of_ble_eq_true rfl)) ⟨by decide, by decide⟩ n_J31_ordinal rfl (xcat (Nat.le_of_ble_eq_true rfl)) hK))))
      intro v20
      refine xr_goto 54 F dX18_part_23 rfl ?_
      exact xr_iret F dX18_part_54
    · refine xr_iload_n 1 F dX18_part_26 rfl ?_
      refine xr_iconst (2 : Int32) F dX18_part_27 rfl ?_
      refine xr_icmp_ne 38 F dX18_part_28 rfl ?_ ?_
      · refine xr_aload_n 0 (r := (some a0)) F dX18_part_31 rfl ?_
        refine xr_gI (r := (some a0)) (ref := "ReserveLedger$Plan") F dX18_part_32 (C := RX18) (T := TX18) (N := 6) rfl (by decide) (Or.inl q3300) (Or.inl rfl) (fun v32 => ?_)
        refine xr_goto 54 F dX18_part_35 rfl ?_
        exact xr_iret F dX18_part_54
      · refine xr_iload_n 1 F dX18_part_38 rfl ?_
        refine xr_iconst (3 : Int32) F dX18_part_39 rfl ?_
        refine xr_icmp_ne 50 F dX18_part_40 rfl ?_ ?_
        · refine xr_aload_n 0 (r := (some a0)) F dX18_part_43 rfl ?_
          refine xr_gI (r := (some a0)) (ref := "ReserveLedger$Plan") F dX18_part_44 (C := RX18) (T := TX18) (N := 6) rfl (by decide) (Or.inl q3302) (Or.inl rfl) (fun v44 => ?_)
          refine xr_goto 54 F dX18_part_47 rfl ?_
          exact xr_iret F dX18_part_54
        · refine xr_aload_n 0 (r := (some a0)) F dX18_part_50 rfl ?_
          refine xr_gI (r := (some a0)) (ref := "ReserveLedger$Plan") F dX18_part_51 (C := RX18) (T := TX18) (N := 6) rfl (by decide) (Or.inl q3304) (Or.inl rfl) (fun v51 => ?_)
          exact xr_iret F dX18_part_54
theorem fX16_compare_2_p2_ok {x : xC} (F : xF x RX16 cX16_compare_2 (some .int)) (hnL : xnL x = 4) (hRm : ∃ dc ds, x.2.2.2.1 = { frames := 3, cells := dc, slots := ds, locals := 53 }) (hno : ∀ pc, xNo x pc) (hmn : xmn x = "compare" ∧ xmy x yX16_compare_2) : ∀ (n : Nat) (l1 : Option Nat) (l2 : Option Nat) (l3 : Int32), xI x xeI 2 [(1, va_rf l1), (2, va_rf l2), (3, .int l3)] [] (fX16_compare_2_p2 n l1 l2 l3) := by
  intro n
  induction n with
  | zero => intro l1 l2 l3; exact xI.stuck
  | succ n ih =>
    intro l1 l2 l3
    unfold fX16_compare_2_p2
    refine xr_iload_n 2 F dX16_compare_2_2 rfl ?_
    refine xr_iconst (4 : Int32) F dX16_compare_2_3 rfl ?_
    refine xr_icmp_ge 45 F dX16_compare_2_4 rfl ?_ ?_
    · refine xr_aload_n 0 (r := l1) F dX16_compare_2_45 rfl ?_
      refine xr_gI (r := l1) (ref := "ReserveLedger$Plan") F dX16_compare_2_46 (C := RX18) (T := TX18) (N := 6) rfl (by decide) (Or.inr ⟨_, q3307⟩) (Or.inl rfl) (fun v46 => ?_)
      refine xr_aload_n 1 (r := l2) F dX16_compare_2_49 rfl ?_
      refine xr_gI (r := l2) (ref := "ReserveLedger$Plan") F dX16_compare_2_50 (C := RX18) (T := TX18) (N := 6) rfl (by decide) (Or.inr ⟨_, q3307⟩) (Or.inl rfl) (fun v50 => ?_)
      refine xr_icmp_ge 60 F dX16_compare_2_53 rfl ?_ ?_
      · refine xr_aload_n 0 (r := l1) F dX16_compare_2_60 rfl ?_
        refine xr_gI (r := l1) (ref := "ReserveLedger$Plan") F dX16_compare_2_61 (C := RX18) (T := TX18) (N := 6) rfl (by decide) (Or.inr ⟨_, q3307⟩) (Or.inl rfl) (fun v61 => ?_)
        refine xr_aload_n 1 (r := l2) F dX16_compare_2_64 rfl ?_
        refine xr_gI (r := l2) (ref := "ReserveLedger$Plan") F dX16_compare_2_65 (C := RX18) (T := TX18) (N := 6) rfl (by decide) (Or.inr ⟨_, q3307⟩) (Or.inl rfl) (fun v65 => ?_)
        refine xr_icmp_le 75 F dX16_compare_2_68 rfl ?_ ?_
        · refine xr_iconst (0 : Int32) F dX16_compare_2_75 rfl ?_
          exact xr_iret F dX16_compare_2_76
        · refine xr_iconst (1 : Int32) F dX16_compare_2_71 rfl ?_
          refine xr_goto 76 F dX16_compare_2_72 rfl ?_
          exact xr_iret F dX16_compare_2_76
      · refine xr_iconst (-1 : Int32) F dX16_compare_2_56 rfl ?_
        refine xr_goto 76 F dX16_compare_2_57 rfl ?_
        exact xr_iret F dX16_compare_2_76
    · refine xr_aload_n 0 (r := l1) F dX16_compare_2_7 rfl ?_
      refine xr_iload_n 2 F dX16_compare_2_8 rfl ?_
      refine xr_VI (y := yX18_part) (As := [.int l3]) (r := l1) F (hno _) dX16_compare_2_9 (fun z => fX18_part_m (xFG F) z l3) (Or.inl rfl) (ci := 38) (C := RX18) (T := TX18) rfl q1352 q1349 q1350 q1351 (xroom hRm (Nat.le_of_ble_eq_true rfl) (Nat.le_of_ble_eq_true rfl)) ⟨by decide, by decide⟩ n_X18_part rfl (xcat (Nat.le_of_ble_eq_true rfl)) (fun v9 => ?_)
      refine xr_aload_n 1 (r := l2) F dX16_compare_2_12 rfl ?_
      refine xr_iload_n 2 F dX16_compare_2_13 rfl ?_
      refine xr_VI (y := yX18_part) (As := [.int l3]) (r := l2) F (hno _) dX16_compare_2_14 (fun z => fX18_part_m (xFG F) z l3) (Or.inl rfl) (ci := 38) (C := RX18) (T := TX18) rfl q1352 q1349 q1350 q1351 (xroom hRm (Nat.le_of_ble_eq_true rfl) (Nat.le_of_ble_eq_true rfl)) ⟨by decide, by decide⟩ n_X18_part rfl (xcat (Nat.le_of_ble_eq_true rfl)) (fun v14 => ?_)
      refine xr_icmp_eq 39 F dX16_compare_2_17 rfl ?_ ?_
      · refine xs_inc [2, 0, 1] F dX16_compare_2_39 rfl hnL rfl rfl (xk1 rfl rfl (xk2 rfl (xrf_cat _) xk0)) (fun x3_39 => ?_)
        refine xr_goto 2 F dX16_compare_2_42 rfl ?_
        exact xI.sub [1, 2, 0] rfl (ih l1 l2 x3_39)
      · refine xr_aload_n 0 (r := l1) F dX16_compare_2_20 rfl ?_
        refine xr_iload_n 2 F dX16_compare_2_21 rfl ?_
        refine xr_VI (y := yX18_part) (As := [.int l3]) (r := l1) F (hno _) dX16_compare_2_22 (fun z => fX18_part_m (xFG F) z l3) (Or.inl rfl) (ci := 38) (C := RX18) (T := TX18) rfl q1352 q1349 q1350 q1351 (xroom hRm (Nat.le_of_ble_eq_true rfl) (Nat.le_of_ble_eq_true rfl)) ⟨by decide, by decide⟩ n_X18_part rfl (xcat (Nat.le_of_ble_eq_true rfl)) (fun v22 => ?_)
        refine xr_aload_n 1 (r := l2) F dX16_compare_2_25 rfl ?_
        refine xr_iload_n 2 F dX16_compare_2_26 rfl ?_
        refine xr_VI (y := yX18_part) (As := [.int l3]) (r := l2) F (hno _) dX16_compare_2_27 (fun z => fX18_part_m (xFG F) z l3) (Or.inl rfl) (ci := 38) (C := RX18) (T := TX18) rfl q1352 q1349 q1350 q1351 (xroom hRm (Nat.le_of_ble_eq_true rfl) (Nat.le_of_ble_eq_true rfl)) ⟨by decide, by decide⟩ n_X18_part rfl (xcat (Nat.le_of_ble_eq_true rfl)) (fun v27 => ?_)
        refine xr_icmp_ge 37 F dX16_compare_2_30 rfl ?_ ?_
        · refine xr_iconst (1 : Int32) F dX16_compare_2_37 rfl ?_
          exact xr_iret F dX16_compare_2_38
        · refine xr_iconst (-1 : Int32) F dX16_compare_2_33 rfl ?_
          refine xr_goto 38 F dX16_compare_2_34 rfl ?_
          exact xr_iret F dX16_compare_2_38
theorem fX16_compare_2_m {l : Launch} {D : xD} {s0 : State} {b0 : Nat} {Γ : Nat → Option Nat} (G : xG l D s0 b0 Γ) (a0 : Nat) (p0 : Option Nat) (p1 : Option Nat) : xMeth l D s0 Γ yX16_compare_2 (Cond.code yX16_compare_2 cX16_compare_2 4 (some .int)) (3) (53) [.ref a0, va_rf p0, va_rf p1] xeI (fX16_compare_2 a0 p0 p1) := by
  refine xMeth.of (lv0 := [(0, va_rf (some a0)), (1, va_rf p0), (2, va_rf p1)]) G (by decide +kernel) (Or.inl rfl) (by simp [lg_sl, xrf_cat, xct_i, xct_l, xct_d, xct_r]) (by simp [lv_args, xrf_cat, xct_i, xct_l, xct_d, xct_r, xrf_some]) (fun x F hnL hRm hmn ht e1 e2 e3 e4 => ?_)
  have hno : ∀ pc, xNo x pc := fun pc z hz => by rw [ht.1 rfl] at hz; cases hz
  unfold fX16_compare_2
  refine xr_iconst (0 : Int32) F dX16_compare_2_0 rfl ?_
  refine xr_letI (fun x3_1 => ?_)
  refine xs_i_n [1, 2] F dX16_compare_2_1 hnL rfl rfl (xk1 rfl rfl (xk2 rfl (xrf_cat _) xk0)) ?_
  exact xI.sub [1, 2, 0] rfl (fX16_compare_2_p2_ok F hnL hRm hno hmn xFU p0 p1 x3_1)
theorem fX16_compare_m {l : Launch} {D : xD} {s0 : State} {b0 : Nat} {Γ : Nat → Option Nat} (G : xG l D s0 b0 Γ) (a0 : Nat) (p0 : Option Nat) (p1 : Option Nat) : xMeth l D s0 Γ yX16_compare (Cond.code yX16_compare cX16_compare 3 (some .int)) (4) (76) [.ref a0, va_rf p0, va_rf p1] xeI (fX16_compare a0 p0 p1) := by
  refine xMeth.of (lv0 := [(0, va_rf (some a0)), (1, va_rf p0), (2, va_rf p1)]) G (by decide +kernel) (Or.inl rfl) (by simp [lg_sl, xrf_cat, xct_i, xct_l, xct_d, xct_r]) (by simp [lv_args, xrf_cat, xct_i, xct_l, xct_d, xct_r, xrf_some]) (fun x F hnL hRm hmn ht e1 e2 e3 e4 => ?_)
  have hno : ∀ pc, xNo x pc := fun pc z hz => by rw [ht.1 rfl] at hz; cases hz
  unfold fX16_compare
  refine xr_aload_n 0 (r := (some a0)) F dX16_compare_0 rfl ?_
  refine xr_aload_n 1 (r := p0) F dX16_compare_1 rfl ?_
  refine xr_castE (ci := 38) (r := p0) F dX16_compare_2 q1344 rfl ?_
  refine xr_aload_n 2 (r := p1) F dX16_compare_5 rfl ?_
  refine xr_castE (ci := 38) (r := p1) F dX16_compare_6 q1344 rfl ?_
  refine xr_VI (y := yX16_compare_2) (As := [va_rf p0, va_rf p1]) (r := (some a0)) F (hno _) dX16_compare_9 (fun z => fX16_compare_2_m (xFG F) z p0 p1) (Or.inl rfl) (ci := 34) (C := RX16) (T := TX16) rfl q1348 q1345 q1346 q1347 (xroom hRm (Nat.le_of_ble_eq_true rfl) (Nat.le_of_ble_eq_true rfl)) ⟨by decide, by decide⟩ n_X16_compare_2 rfl (xcat (Nat.le_of_ble_eq_true rfl)) (fun v9 => ?_)
  exact xr_iret F dX16_compare_12
theorem fJ29_getEntryUsingComparator_p69_ok {x : xC} (F : xF x RJ29 cJ29_getEntryUsingComparator (some (.object "java/util/TreeMap$Entry"))) (hnL : xnL x = 6) (hRm : ∃ dc ds, x.2.2.2.1 = { frames := 5, cells := dc, slots := ds, locals := 98 }) (hno : ∀ pc, xNo x pc) (hmn : xmn x = "getEntryUsingComparator" ∧ xmy x yJ29_getEntryUsingComparator) {k17 : Option Nat → Option Nat → Option Nat → xM (Option Nat)} (hk17 : ∀ (l2 : Option Nat) (l3 : Option Nat) (l4 : Option Nat), xI x xeR 17 [(2, va_rf l2), (3, va_rf l3), (4, va_rf l4)] [] (k17 l2 l3 l4)) (l2 : Option Nat) (l3 : Option Nat) (l4 : Option Nat) : xI x xeR 69 [(2, va_rf l2), (3, va_rf l3), (4, va_rf l4)] [] (fJ29_getEntryUsingComparator_p69 k17 l2 l3 l4) := by
  unfold fJ29_getEntryUsingComparator_p69
  refine xr_goto 17 F dJ29_getEntryUsingComparator_69 rfl ?_
  exact xI.sub [0, 1, 2] rfl (hk17 l2 l3 l4)
theorem fJ29_getEntryUsingComparator_p72_ok {x : xC} (F : xF x RJ29 cJ29_getEntryUsingComparator (some (.object "java/util/TreeMap$Entry"))) (hnL : xnL x = 6) (hRm : ∃ dc ds, x.2.2.2.1 = { frames := 5, cells := dc, slots := ds, locals := 98 }) (hno : ∀ pc, xNo x pc) (hmn : xmn x = "getEntryUsingComparator" ∧ xmy x yJ29_getEntryUsingComparator)  : xI x xeR 72 [] [] (fJ29_getEntryUsingComparator_p72 ) := by
  unfold fJ29_getEntryUsingComparator_p72
  refine xr_null F dJ29_getEntryUsingComparator_72 ?_
  exact xr_aret (v := none) F dJ29_getEntryUsingComparator_73 (Or.inl ⟨_, rfl⟩)
theorem fJ29_getEntryUsingComparator_p17_ok {x : xC} (F : xF x RJ29 cJ29_getEntryUsingComparator (some (.object "java/util/TreeMap$Entry"))) (hnL : xnL x = 6) (hRm : ∃ dc ds, x.2.2.2.1 = { frames := 5, cells := dc, slots := ds, locals := 98 }) (hno : ∀ pc, xNo x pc) (hmn : xmn x = "getEntryUsingComparator" ∧ xmy x yJ29_getEntryUsingComparator) : ∀ (n : Nat) (l2 : Option Nat) (l3 : Option Nat) (l4 : Option Nat), xI x xeR 17 [(2, va_rf l2), (3, va_rf l3), (4, va_rf l4)] [] (fJ29_getEntryUsingComparator_p17 n l2 l3 l4) := by
  intro n
  induction n with
  | zero => intro l2 l3 l4; exact xI.stuck
  | succ n ih =>
    intro l2 l3 l4
    unfold fJ29_getEntryUsingComparator_p17
    refine xr_aload 2 (r := l4) F dJ29_getEntryUsingComparator_17 rfl ?_
    refine xr_ifnull 72 F dJ29_getEntryUsingComparator_19 rfl ?_ ?_
    · exact xI.sub [] rfl (fJ29_getEntryUsingComparator_p72_ok F hnL hRm hno hmn)
    · refine xr_aload_n 1 (r := l3) F dJ29_getEntryUsingComparator_22 rfl ?_
      refine xr_aload_n 0 (r := l2) F dJ29_getEntryUsingComparator_23 rfl ?_
      refine xr_aload 2 (r := l4) F dJ29_getEntryUsingComparator_24 rfl ?_
      refine xr_gR (r := l4) (ref := "java/util/TreeMap$Entry") F dJ29_getEntryUsingComparator_26 (C := RJ47) (T := TJ47) (N := 6) rfl (by decide) (Or.inl q3160) (Or.inl rfl) (fun v26 => ?_)
      refine xr_FI (x0 := ⟨"java/util/Comparator", "compare", "(Ljava/lang/Object;Ljava/lang/Object;)I"⟩) (y := yX16_compare) (As := [va_rf l2, va_rf v26]) (r := l3) F (hno _) dJ29_getEntryUsingComparator_29 (fun z => fX16_compare_m (xFG F) z l2 v26) rfl (ci := 34) (C := RX16) (T := TX16) rfl q1343 q1335 q1341 q1339 q1337 q1336 q1342 q1340 q1338 (xroom hRm (Nat.le_of_ble_eq_true rfl) (Nat.le_of_ble_eq_true rfl)) ⟨by decide, by decide⟩ n_X16_compare rfl (xcat (Nat.le_of_ble_eq_true rfl)) (fun v29 => ?_)
      refine xs_i [0, 1, 2] F dJ29_getEntryUsingComparator_34 hnL rfl rfl (xk1 rfl rfl (xk1 rfl rfl (xk2 rfl (xrf_cat _) xk0))) ?_
      refine xr_iload 0 F dJ29_getEntryUsingComparator_36 rfl ?_
      refine xr_if_ge 51 F dJ29_getEntryUsingComparator_38 rfl ?_ ?_
      · refine xr_iload 0 F dJ29_getEntryUsingComparator_51 rfl ?_
        refine xr_if_le 66 F dJ29_getEntryUsingComparator_53 rfl ?_ ?_
        · refine xr_aload 3 (r := l4) F dJ29_getEntryUsingComparator_66 rfl ?_
          exact xr_aret (v := l4) F dJ29_getEntryUsingComparator_68 (Or.inl ⟨_, rfl⟩)
        · refine xr_aload 3 (r := l4) F dJ29_getEntryUsingComparator_56 rfl ?_
          refine xr_gR (r := l4) (ref := "java/util/TreeMap$Entry") F dJ29_getEntryUsingComparator_58 (C := RJ47) (T := TJ47) (N := 6) rfl (by decide) (Or.inl q3165) (Or.inl rfl) (fun v58 => ?_)
          refine xs_a [1, 2] F dJ29_getEntryUsingComparator_61 hnL rfl rfl (xk1 rfl rfl (xk2 rfl (xrf_cat _) xk0)) ?_
          refine xr_goto 69 F dJ29_getEntryUsingComparator_63 rfl ?_
          exact xI.sub [1, 2, 0] rfl (fJ29_getEntryUsingComparator_p69_ok F hnL hRm hno hmn ih l2 l3 v58)
      · refine xr_aload 3 (r := l4) F dJ29_getEntryUsingComparator_41 rfl ?_
        refine xr_gR (r := l4) (ref := "java/util/TreeMap$Entry") F dJ29_getEntryUsingComparator_43 (C := RJ47) (T := TJ47) (N := 6) rfl (by decide) (Or.inl q3164) (Or.inl rfl) (fun v43 => ?_)
        refine xs_a [1, 2] F dJ29_getEntryUsingComparator_46 hnL rfl rfl (xk1 rfl rfl (xk2 rfl (xrf_cat _) xk0)) ?_
        refine xr_goto 69 F dJ29_getEntryUsingComparator_48 rfl ?_
        exact xI.sub [1, 2, 0] rfl (fJ29_getEntryUsingComparator_p69_ok F hnL hRm hno hmn ih l2 l3 v43)
theorem fJ29_getEntryUsingComparator_m {l : Launch} {D : xD} {s0 : State} {b0 : Nat} {Γ : Nat → Option Nat} (G : xG l D s0 b0 Γ) (a0 : Nat) (p0 : Option Nat) : xMeth l D s0 Γ yJ29_getEntryUsingComparator (Cond.code yJ29_getEntryUsingComparator cJ29_getEntryUsingComparator 6 (some (.object "java/util/TreeMap$Entry"))) (5) (98) [.ref a0, va_rf p0] xeR (fJ29_getEntryUsingComparator a0 p0) := by
  refine xMeth.of (lv0 := [(0, va_rf (some a0)), (1, va_rf p0)]) G (by decide +kernel) (Or.inl rfl) (by simp [lg_sl, xrf_cat, xct_i, xct_l, xct_d, xct_r]) (by simp [lv_args, xrf_cat, xct_i, xct_l, xct_d, xct_r, xrf_some]) (fun x F hnL hRm hmn ht e1 e2 e3 e4 => ?_)
  have hno : ∀ pc, xNo x pc := fun pc z hz => by rw [ht.1 rfl] at hz; cases hz
  unfold fJ29_getEntryUsingComparator
  refine xr_aload_n 1 (r := p0) F dJ29_getEntryUsingComparator_0 rfl ?_
  refine xs_a_n [0] F dJ29_getEntryUsingComparator_1 hnL rfl rfl (xk1 rfl rfl xk0) ?_
  refine xr_aload_n 1 (r := (some a0)) F dJ29_getEntryUsingComparator_2 rfl ?_
  refine xr_gR (r := (some a0)) (ref := "java/util/TreeMap") F dJ29_getEntryUsingComparator_3 (C := RJ29) (T := TJ29) (N := 9) rfl (by decide) (Or.inl q1887) (Or.inl rfl) (fun v3 => ?_)
  refine xs_a_n [0, 1] F dJ29_getEntryUsingComparator_6 hnL rfl rfl (xk2 rfl (xrf_cat _) (xk1 rfl rfl xk0)) ?_
  refine xr_aload_n 0 (r := v3) F dJ29_getEntryUsingComparator_7 rfl ?_
  refine xr_ifnull 72 F dJ29_getEntryUsingComparator_8 rfl ?_ ?_
  · exact xI.sub [] rfl (fJ29_getEntryUsingComparator_p72_ok F hnL hRm hno hmn)
  · refine xr_aload_n 2 (r := (some a0)) F dJ29_getEntryUsingComparator_11 rfl ?_
    refine xr_gR (r := (some a0)) (ref := "java/util/TreeMap") F dJ29_getEntryUsingComparator_12 (C := RJ29) (T := TJ29) (N := 9) rfl (by decide) (Or.inl q1888) (Or.inl rfl) (fun v12 => ?_)
    refine xs_a [0, 1] F dJ29_getEntryUsingComparator_15 hnL rfl rfl (xk2 rfl (xrf_cat _) (xk1 rfl rfl xk0)) ?_
    exact xI.sub [2, 1, 0] rfl (fJ29_getEntryUsingComparator_p17_ok F hnL hRm hno hmn xFU p0 v3 v12)
theorem fJ29_getEntry_p72_ok {x : xC} (F : xF x RJ29 cJ29_getEntry (some (.object "java/util/TreeMap$Entry"))) (hnL : xnL x = 5) (hRm : ∃ dc ds, x.2.2.2.1 = { frames := 6, cells := dc, slots := ds, locals := 123 }) (hno : ∀ pc, xNo x pc) (hmn : xmn x = "getEntry" ∧ xmy x yJ29_getEntry) {k28 : Option Nat → Option Nat → xM (Option Nat)} (hk28 : ∀ (l2 : Option Nat) (l3 : Option Nat), xI x xeR 28 [(2, va_rf l2), (3, va_rf l3)] [] (k28 l2 l3)) (l2 : Option Nat) (l3 : Option Nat) : xI x xeR 72 [(2, va_rf l2), (3, va_rf l3)] [] (fJ29_getEntry_p72 k28 l2 l3) := by
  unfold fJ29_getEntry_p72
  refine xr_goto 28 F dJ29_getEntry_72 rfl ?_
  exact xI.sub [0, 1] rfl (hk28 l2 l3)
theorem fJ29_getEntry_p28_ok {x : xC} (F : xF x RJ29 cJ29_getEntry (some (.object "java/util/TreeMap$Entry"))) (hnL : xnL x = 5) (hRm : ∃ dc ds, x.2.2.2.1 = { frames := 6, cells := dc, slots := ds, locals := 123 }) (hno : ∀ pc, xNo x pc) (hmn : xmn x = "getEntry" ∧ xmy x yJ29_getEntry) : ∀ (n : Nat) (l2 : Option Nat) (l3 : Option Nat), xI x xeR 28 [(2, va_rf l2), (3, va_rf l3)] [] (fJ29_getEntry_p28 n l2 l3) := by
  intro n
  induction n with
  | zero => intro l2 l3; exact xI.stuck
  | succ n ih =>
    intro l2 l3
    unfold fJ29_getEntry_p28
    refine xr_aload_n 1 (r := l3) F dJ29_getEntry_28 rfl ?_
    refine xr_ifnull 75 F dJ29_getEntry_29 rfl ?_ ?_
    · refine xr_null F dJ29_getEntry_75 ?_
      exact xr_aret (v := none) F dJ29_getEntry_76 (Or.inl ⟨_, rfl⟩)
    · refine xr_aload_n 0 (r := l2) F dJ29_getEntry_32 rfl ?_
      refine xr_aload_n 1 (r := l3) F dJ29_getEntry_33 rfl ?_
      refine xr_gR (r := l3) (ref := "java/util/TreeMap$Entry") F dJ29_getEntry_34 (C := RJ47) (T := TJ47) (N := 6) rfl (by decide) (Or.inl q3160) (Or.inl rfl) (fun v34 => ?_)
      refine xr_FI (x0 := ⟨"java/lang/Comparable", "compareTo", "(Ljava/lang/Object;)I"⟩) (y := yJ17_compareTo) (As := [va_rf v34]) (r := l2) F (hno _) dJ29_getEntry_37 (fun z => fJ17_compareTo_m (xFG F) z v34) rfl (ci := 15) (C := RJ17) (T := TJ17) rfl q1452 q1366 q1450 q1448 q1368 q1367 q1451 q1449 q1447 (xroom hRm (Nat.le_of_ble_eq_true rfl) (Nat.le_of_ble_eq_true rfl)) ⟨by decide, by decide⟩ n_J17_compareTo rfl (xcat (Nat.le_of_ble_eq_true rfl)) (fun v37 => ?_)
      refine xs_i [0, 1] F dJ29_getEntry_42 hnL rfl rfl (xk1 rfl rfl (xk2 rfl (xrf_cat _) xk0)) ?_
      refine xr_iload 0 F dJ29_getEntry_44 rfl ?_
      refine xr_if_ge 57 F dJ29_getEntry_46 rfl ?_ ?_
      · refine xr_iload 0 F dJ29_getEntry_57 rfl ?_
        refine xr_if_le 70 F dJ29_getEntry_59 rfl ?_ ?_
        · refine xr_aload_n 2 (r := l3) F dJ29_getEntry_70 rfl ?_
          exact xr_aret (v := l3) F dJ29_getEntry_71 (Or.inl ⟨_, rfl⟩)
        · refine xr_aload_n 2 (r := l3) F dJ29_getEntry_62 rfl ?_
          refine xr_gR (r := l3) (ref := "java/util/TreeMap$Entry") F dJ29_getEntry_63 (C := RJ47) (T := TJ47) (N := 6) rfl (by decide) (Or.inl q3165) (Or.inl rfl) (fun v63 => ?_)
          refine xs_a_n [1] F dJ29_getEntry_66 hnL rfl rfl (xk2 rfl (xrf_cat _) xk0) ?_
          refine xr_goto 72 F dJ29_getEntry_67 rfl ?_
          exact xI.sub [1, 0] rfl (fJ29_getEntry_p72_ok F hnL hRm hno hmn ih l2 v63)
      · refine xr_aload_n 2 (r := l3) F dJ29_getEntry_49 rfl ?_
        refine xr_gR (r := l3) (ref := "java/util/TreeMap$Entry") F dJ29_getEntry_50 (C := RJ47) (T := TJ47) (N := 6) rfl (by decide) (Or.inl q3164) (Or.inl rfl) (fun v50 => ?_)
        refine xs_a_n [1] F dJ29_getEntry_53 hnL rfl rfl (xk2 rfl (xrf_cat _) xk0) ?_
        refine xr_goto 72 F dJ29_getEntry_54 rfl ?_
        exact xI.sub [1, 0] rfl (fJ29_getEntry_p72_ok F hnL hRm hno hmn ih l2 v50)
theorem fJ29_getEntry_m {l : Launch} {D : xD} {s0 : State} {b0 : Nat} {Γ : Nat → Option Nat} (G : xG l D s0 b0 Γ) (a0 : Nat) (p0 : Option Nat) : xMeth l D s0 Γ yJ29_getEntry (Cond.code yJ29_getEntry cJ29_getEntry 5 (some (.object "java/util/TreeMap$Entry"))) (6) (123) [.ref a0, va_rf p0] xeR (fJ29_getEntry a0 p0) := by
  refine xMeth.of (lv0 := [(0, va_rf (some a0)), (1, va_rf p0)]) G (by decide +kernel) (Or.inl rfl) (by simp [lg_sl, xrf_cat, xct_i, xct_l, xct_d, xct_r]) (by simp [lv_args, xrf_cat, xct_i, xct_l, xct_d, xct_r, xrf_some]) (fun x F hnL hRm hmn ht e1 e2 e3 e4 => ?_)
  have hno : ∀ pc, xNo x pc := fun pc z hz => by rw [ht.1 rfl] at hz; cases hz
  unfold fJ29_getEntry
  refine xr_aload_n 0 (r := (some a0)) F dJ29_getEntry_0 rfl ?_
  refine xr_gR (r := (some a0)) (ref := "java/util/TreeMap") F dJ29_getEntry_1 (C := RJ29) (T := TJ29) (N := 9) rfl (by decide) (Or.inl q1887) (Or.inl rfl) (fun v1 => ?_)
  refine xr_ifnull 13 F dJ29_getEntry_4 rfl ?_ ?_
  · refine xr_aload_n 1 (r := p0) F dJ29_getEntry_13 rfl ?_
    refine xr_SR (y := yJ25_requireNonNull) (As := [va_rf p0]) F (hno _) dJ29_getEntry_14 (fJ25_requireNonNull_m (xFG F) p0) (Or.inl rfl) q1363 q153 (Or.inl q1361) q1362 (xroom hRm (Nat.le_of_ble_eq_true rfl) (Nat.le_of_ble_eq_true rfl)) ⟨by decide, by decide⟩ n_J25_requireNonNull rfl (xcat (Nat.le_of_ble_eq_true rfl)) (fun v14 => ?_)
    refine xr_pop F dJ29_getEntry_17 (xrf_cat _) ?_
    refine xr_aload_n 1 (r := p0) F dJ29_getEntry_18 rfl ?_
    refine xr_cast (r := p0) F dJ29_getEntry_19 q1364 xok_4_5_15_40_41_42_43_44_45_46_47_48_49_50_51_52_java_lang_Comparable ?_
    refine xs_a_n [0] F dJ29_getEntry_22 hnL rfl rfl (xk1 rfl rfl xk0) ?_
    refine xr_aload_n 1 (r := (some a0)) F dJ29_getEntry_23 rfl ?_
    refine xr_gR (r := (some a0)) (ref := "java/util/TreeMap") F dJ29_getEntry_24 (C := RJ29) (T := TJ29) (N := 9) rfl (by decide) (Or.inl q1888) (Or.inl rfl) (fun v24 => ?_)
    refine xs_a_n [0] F dJ29_getEntry_27 hnL rfl rfl (xk2 rfl (xrf_cat _) xk0) ?_
    exact xI.sub [1, 0] rfl (fJ29_getEntry_p28_ok F hnL hRm hno hmn xFU p0 v24)
  · refine xr_aload_n 0 (r := (some a0)) F dJ29_getEntry_7 rfl ?_
    refine xr_aload_n 1 (r := p0) F dJ29_getEntry_8 rfl ?_
    refine xr_VR (y := yJ29_getEntryUsingComparator) (As := [va_rf p0]) (r := (some a0)) F (hno _) dJ29_getEntry_9 (fun z => fJ29_getEntryUsingComparator_m (xFG F) z p0) (Or.inl rfl) (ci := 16) (C := RJ29) (T := TJ29) rfl q1333 q1330 q1331 q1332 (xroom hRm (Nat.le_of_ble_eq_true rfl) (Nat.le_of_ble_eq_true rfl)) ⟨by decide, by decide⟩ n_J29_getEntryUsingComparator rfl (xcat (Nat.le_of_ble_eq_true rfl)) (fun v9 => ?_)
    exact xr_aret (v := v9) F dJ29_getEntry_12 (Or.inl ⟨_, rfl⟩)
theorem fJ29_get_m {l : Launch} {D : xD} {s0 : State} {b0 : Nat} {Γ : Nat → Option Nat} (G : xG l D s0 b0 Γ) (a0 : Nat) (p0 : Option Nat) : xMeth l D s0 Γ yJ29_get (Cond.code yJ29_get cJ29_get 3 (some (.object "java/lang/Object"))) (7) (147) [.ref a0, va_rf p0] xeR (fJ29_get a0 p0) := by
  refine xMeth.of (lv0 := [(0, va_rf (some a0)), (1, va_rf p0)]) G (by decide +kernel) (Or.inl rfl) (by simp [lg_sl, xrf_cat, xct_i, xct_l, xct_d, xct_r]) (by simp [lv_args, xrf_cat, xct_i, xct_l, xct_d, xct_r, xrf_some]) (fun x F hnL hRm hmn ht e1 e2 e3 e4 => ?_)
  have hno : ∀ pc, xNo x pc := fun pc z hz => by rw [ht.1 rfl] at hz; cases hz
  unfold fJ29_get
  refine xr_aload_n 0 (r := (some a0)) F dJ29_get_0 rfl ?_
  refine xr_aload_n 1 (r := p0) F dJ29_get_1 rfl ?_
  refine xr_VR (y := yJ29_getEntry) (As := [va_rf p0]) (r := (some a0)) F (hno _) dJ29_get_2 (fun z => fJ29_getEntry_m (xFG F) z p0) (Or.inl rfl) (ci := 16) (C := RJ29) (T := TJ29) rfl q1329 q1326 q1327 q1328 (xroom hRm (Nat.le_of_ble_eq_true rfl) (Nat.le_of_ble_eq_true rfl)) ⟨by decide, by decide⟩ n_J29_getEntry rfl (xcat (Nat.le_of_ble_eq_true rfl)) (fun v2 => ?_)
  refine xs_a_n [] F dJ29_get_5 hnL rfl rfl xk0 ?_
  refine xr_aload_n 0 (r := v2) F dJ29_get_6 rfl ?_
  refine xr_ifnonnull 14 F dJ29_get_7 rfl ?_ ?_
  · refine xr_null F dJ29_get_10 ?_
    refine xr_goto 18 F dJ29_get_11 rfl ?_
    exact xr_aret (v := none) F dJ29_get_18 (Or.inl ⟨_, rfl⟩)
  · refine xr_aload_n 0 (r := v2) F dJ29_get_14 rfl ?_
    refine xr_gR (r := v2) (ref := "java/util/TreeMap$Entry") F dJ29_get_15 (C := RJ47) (T := TJ47) (N := 6) rfl (by decide) (Or.inl q3163) (Or.inl rfl) (fun v15 => ?_)
    exact xr_aret (v := v15) F dJ29_get_18 (Or.inl ⟨_, rfl⟩)
theorem fX6_ledger_m {l : Launch} {D : xD} {s0 : State} {b0 : Nat} {Γ : Nat → Option Nat} (G : xG l D s0 b0 Γ) (a0 : Nat) (p0 : Int32) (p1 : Int32) : xMeth l D s0 Γ yX6_ledger (Cond.code yX6_ledger cX6_ledger 3 (some (.object "ReserveLedger$Ledger"))) (8) (169) [.ref a0, .int p0, .int p1] xeR (fX6_ledger a0 p0 p1) := by
  refine xMeth.of (lv0 := [(0, va_rf (some a0)), (1, .int p0), (2, .int p1)]) G (by decide +kernel) (Or.inl rfl) (Nat.le_of_ble_eq_true rfl) rfl (fun x F hnL hRm hmn ht e1 e2 e3 e4 => ?_)
  have hno : ∀ pc, xNo x pc := fun pc z hz => by rw [ht.1 rfl] at hz; cases hz
  unfold fX6_ledger
  refine xr_iload_n 1 F dX6_ledger_0 rfl ?_
  refine xr_iload_n 2 F dX6_ledger_1 rfl ?_
  refine xr_icmp_eq 23 F dX6_ledger_2 rfl ?_ ?_
  · refine xr_aload_n 0 (r := (some a0)) F dX6_ledger_23 rfl ?_
    refine xr_gR (r := (some a0)) (ref := "ReserveLedger$Herd") F dX6_ledger_24 (C := RX6) (T := TX6) (N := 8) rfl (by decide) (Or.inl q2052) (Or.inl rfl) (fun v24 => ?_)
    refine xr_aload_n 0 (r := (some a0)) F dX6_ledger_27 rfl ?_
    refine xr_gR (r := (some a0)) (ref := "ReserveLedger$Herd") F dX6_ledger_28 (C := RX6) (T := TX6) (N := 8) rfl (by decide) (Or.inl q2042) (Or.inl rfl) (fun v28 => ?_)
    refine xr_VI (y := yX10_total) (As := []) (r := v28) F (hno _) dX6_ledger_31 (fun z => fX10_total_m (xFG F) z) (Or.inl rfl) (ci := 24) (C := RX10) (T := TX10) rfl q1642 q1639 q1640 q1641 (xroom hRm (Nat.le_of_ble_eq_true rfl) (Nat.le_of_ble_eq_true rfl)) ⟨by decide, by decide⟩ n_X10_total rfl (xcat (Nat.le_of_ble_eq_true rfl)) (fun v31 => ?_)
    refine xr_put (r := v24) (ref := "ReserveLedger$Ledger") F dX6_ledger_34 xk_22 (by decide) (Or.inr ⟨_, q1973⟩) (Or.inl rfl) (Or.inl rfl) ⟨rfl, rfl⟩ ?_
    refine xr_aload_n 0 (r := (some a0)) F dX6_ledger_37 rfl ?_
    refine xr_gR (r := (some a0)) (ref := "ReserveLedger$Herd") F dX6_ledger_38 (C := RX6) (T := TX6) (N := 8) rfl (by decide) (Or.inl q2052) (Or.inl rfl) (fun v38 => ?_)
    exact xr_aret (v := v38) F dX6_ledger_41 (Or.inl ⟨_, rfl⟩)
  · refine xr_aload_n 0 (r := (some a0)) F dX6_ledger_5 rfl ?_
    refine xr_gR (r := (some a0)) (ref := "ReserveLedger$Herd") F dX6_ledger_6 (C := RX6) (T := TX6) (N := 8) rfl (by decide) (Or.inl q2036) (Or.inl rfl) (fun v6 => ?_)
    refine xr_gR (r := v6) (ref := "ReserveLedger$Species") F dX6_ledger_9 (C := RX7) (T := TX7) (N := 6) rfl (by decide) (Or.inr ⟨_, q1934⟩) (Or.inl rfl) (fun v9 => ?_)
    refine xr_iload_n 1 F dX6_ledger_12 rfl ?_
    refine xr_SR (y := yJ17_valueOf) (As := [.int p0]) F (hno _) dX6_ledger_13 (fJ17_valueOf_m (xFG F) p0) (Or.inl rfl) q1304 q141 (Or.inl q1302) q1303 (xroom hRm (Nat.le_of_ble_eq_true rfl) (Nat.le_of_ble_eq_true rfl)) ⟨by decide, by decide⟩ n_J17_valueOf rfl (xcat (Nat.le_of_ble_eq_true rfl)) (fun v13 => ?_)
    refine xr_VR (y := yJ29_get) (As := [va_rf v13]) (r := v9) F (hno _) dX6_ledger_16 (fun z => fJ29_get_m (xFG F) z v13) (Or.inl rfl) (ci := 16) (C := RJ29) (T := TJ29) rfl q1325 q1322 q1323 q1324 (xroom hRm (Nat.le_of_ble_eq_true rfl) (Nat.le_of_ble_eq_true rfl)) ⟨by decide, by decide⟩ n_J29_get rfl (xcat (Nat.le_of_ble_eq_true rfl)) (fun v16 => ?_)
    refine xr_castE (ci := 22) (r := v16) F dX6_ledger_19 q1638 rfl ?_
    exact xr_aret (v := v16) F dX6_ledger_22 (Or.inl ⟨_, rfl⟩)
theorem fX1_ledgerOf_p26_ok {x : xC} (F : xF x RX1 cX1_ledgerOf (some (.object "ReserveLedger$Ledger"))) (hnL : xnL x = 4) (hRm : ∃ dc ds, x.2.2.2.1 = { frames := 9, cells := dc, slots := ds, locals := 191 }) (hno : ∀ pc, xNo x pc) (hmn : xmn x = "ledgerOf" ∧ xmy x yX1_ledgerOf) (l3 : Option Nat) (s0 : Int32) : xI x xeR 26 [(3, va_rf l3)] [.int s0] (fX1_ledgerOf_p26 l3 s0) := by
  unfold fX1_ledgerOf_p26
  refine xr_SV (y := yX1_checkThere) (As := [.int s0]) F (hno _) dX1_ledgerOf_26 (fX1_checkThere_m (xFG F) s0) (Or.inl rfl) q2618 q121 (Or.inl q2616) q2617 (xroom hRm (Nat.le_of_ble_eq_true rfl) (Nat.le_of_ble_eq_true rfl)) ⟨by decide, by decide⟩ n_X1_checkThere rfl (xcat (Nat.le_of_ble_eq_true rfl)) (fun _ => ?_)
  refine xr_aload_n 0 (r := l3) F dX1_ledgerOf_29 rfl ?_
  exact xr_aret (v := l3) F dX1_ledgerOf_30 (Or.inl ⟨_, rfl⟩)
theorem fX1_ledgerOf_m {l : Launch} {D : xD} {s0 : State} {b0 : Nat} {Γ : Nat → Option Nat} (G : xG l D s0 b0 Γ) (a0 : Nat) (p0 : Int32) (p1 : Int32) : xMeth l D s0 Γ yX1_ledgerOf (Cond.code yX1_ledgerOf cX1_ledgerOf 4 (some (.object "ReserveLedger$Ledger"))) (9) (191) [.ref a0, .int p0, .int p1] xeR (fX1_ledgerOf a0 p0 p1) := by
  refine xMeth.of (lv0 := [(0, va_rf (some a0)), (1, .int p0), (2, .int p1)]) G (by decide +kernel) (Or.inl rfl) (Nat.le_of_ble_eq_true rfl) rfl (fun x F hnL hRm hmn ht e1 e2 e3 e4 => ?_)
  have hno : ∀ pc, xNo x pc := fun pc z hz => by rw [ht.1 rfl] at hz; cases hz
  unfold fX1_ledgerOf
  refine xr_aload_n 0 (r := (some a0)) F dX1_ledgerOf_0 rfl ?_
  refine xr_iload_n 1 F dX1_ledgerOf_1 rfl ?_
  refine xr_VR (y := yX1_herd) (As := [.int p0]) (r := (some a0)) F (hno _) dX1_ledgerOf_2 (fun z => fX1_herd_m (xFG F) z p0) (Or.inl rfl) (ci := 0) (C := RX1) (T := TX1) rfl q2504 q2501 q2503 qs34 (xroom hRm (Nat.le_of_ble_eq_true rfl) (Nat.le_of_ble_eq_true rfl)) ⟨by decide, by decide⟩ n_X1_herd rfl (xcat (Nat.le_of_ble_eq_true rfl)) (fun v2 => ?_)
  refine xr_iload_n 2 F dX1_ledgerOf_5 rfl ?_
  refine xr_aload_n 0 (r := (some a0)) F dX1_ledgerOf_6 rfl ?_
  refine xr_gR (r := (some a0)) (ref := "ReserveLedger") F dX1_ledgerOf_7 (C := RX1) (T := TX1) (N := 7) rfl (by decide) (Or.inl q614) (Or.inl rfl) (fun v7 => ?_)
  refine xr_gI (r := v7) (ref := "ReserveLedger$State") F dX1_ledgerOf_10 (C := RX2) (T := TX2) (N := 5) rfl (by decide) (Or.inr ⟨_, q589⟩) (Or.inl rfl) (fun v10 => ?_)
  refine xr_VR (y := yX6_ledger) (As := [.int p1, .int v10]) (r := v2) F (hno _) dX1_ledgerOf_13 (fun z => fX6_ledger_m (xFG F) z p1 v10) (Or.inl rfl) (ci := 19) (C := RX6) (T := TX6) rfl q1301 q1298 q1299 q1300 (xroom hRm (Nat.le_of_ble_eq_true rfl) (Nat.le_of_ble_eq_true rfl)) ⟨by decide, by decide⟩ n_X6_ledger rfl (xcat (Nat.le_of_ble_eq_true rfl)) (fun v13 => ?_)
  refine xs_a_n [] F dX1_ledgerOf_16 hnL rfl rfl xk0 ?_
  refine xr_aload_n 0 (r := v13) F dX1_ledgerOf_17 rfl ?_
  refine xr_ifnull 25 F dX1_ledgerOf_18 rfl ?_ ?_
  · refine xr_iconst (0 : Int32) F dX1_ledgerOf_25 rfl ?_
    exact xI.sub [0] rfl (fX1_ledgerOf_p26_ok F hnL hRm hno hmn v13 (0 : Int32))
  · refine xr_iconst (1 : Int32) F dX1_ledgerOf_21 rfl ?_
    refine xr_goto 26 F dX1_ledgerOf_22 rfl ?_
    exact xI.sub [0] rfl (fX1_ledgerOf_p26_ok F hnL hRm hno hmn v13 (1 : Int32))
theorem fX1_part_m {l : Launch} {D : xD} {s0 : State} {b0 : Nat} {Γ : Nat → Option Nat} (G : xG l D s0 b0 Γ) (p0 : Int32) : xMeth l D s0 Γ yX1_part (Cond.code yX1_part cX1_part 2 (some (.object "ReserveLedger$Part"))) (1) (3100) [.int p0] xeR (fX1_part p0) := by
  refine xMeth.of (lv0 := [(0, .int p0)]) G (by decide +kernel) (Or.inl rfl) (Nat.le_of_ble_eq_true rfl) rfl (fun x F hnL hRm hmn ht e1 e2 e3 e4 => ?_)
  have hno : ∀ pc, xNo x pc := fun pc z hz => by rw [ht.1 rfl] at hz; cases hz
  unfold fX1_part
  refine xr_bipush (7 : Int32) F dX1_part_0 rfl ?_
  refine xr_anew F dX1_part_2 rfl q2622 q2623 (fun v2 => ?_)
  refine xr_dup F dX1_part_5 (xrf_cat _) ?_
  refine xr_iconst (0 : Int32) F dX1_part_6 rfl ?_
  refine xr_lamC (k := 3) F hmn.2 dX1_part_7 rfl rfl (xroom hRm (Nat.le_of_ble_eq_true rfl) (Nat.le_of_ble_eq_true rfl)) (xcat (Nat.le_of_ble_eq_true rfl)) (fun v7 => ?_)
  refine xr_aastL (v := v7) (r := (some v2)) F dX1_part_12 rfl xokPart_ok ?_
  refine xr_dup F dX1_part_13 (xrf_cat _) ?_
  refine xr_iconst (1 : Int32) F dX1_part_14 rfl ?_
  refine xr_lamC (k := 4) F hmn.2 dX1_part_15 rfl rfl (xroom hRm (Nat.le_of_ble_eq_true rfl) (Nat.le_of_ble_eq_true rfl)) (xcat (Nat.le_of_ble_eq_true rfl)) (fun v15 => ?_)
  refine xr_aastL (v := v15) (r := (some v2)) F dX1_part_20 rfl xokPart_ok ?_
  refine xr_dup F dX1_part_21 (xrf_cat _) ?_
  refine xr_iconst (2 : Int32) F dX1_part_22 rfl ?_
  refine xr_lamC (k := 5) F hmn.2 dX1_part_23 rfl rfl (xroom hRm (Nat.le_of_ble_eq_true rfl) (Nat.le_of_ble_eq_true rfl)) (xcat (Nat.le_of_ble_eq_true rfl)) (fun v23 => ?_)
  refine xr_aastL (v := v23) (r := (some v2)) F dX1_part_28 rfl xokPart_ok ?_
  refine xr_dup F dX1_part_29 (xrf_cat _) ?_
  refine xr_iconst (3 : Int32) F dX1_part_30 rfl ?_
  refine xr_lamC (k := 6) F hmn.2 dX1_part_31 rfl rfl (xroom hRm (Nat.le_of_ble_eq_true rfl) (Nat.le_of_ble_eq_true rfl)) (xcat (Nat.le_of_ble_eq_true rfl)) (fun v31 => ?_)
  refine xr_aastL (v := v31) (r := (some v2)) F dX1_part_36 rfl xokPart_ok ?_
  refine xr_dup F dX1_part_37 (xrf_cat _) ?_
  refine xr_iconst (4 : Int32) F dX1_part_38 rfl ?_
  refine xr_lamC (k := 7) F hmn.2 dX1_part_39 rfl rfl (xroom hRm (Nat.le_of_ble_eq_true rfl) (Nat.le_of_ble_eq_true rfl)) (xcat (Nat.le_of_ble_eq_true rfl)) (fun v39 => ?_)
  refine xr_aastL (v := v39) (r := (some v2)) F dX1_part_44 rfl xokPart_ok ?_
  refine xr_dup F dX1_part_45 (xrf_cat _) ?_
  refine xr_iconst (5 : Int32) F dX1_part_46 rfl ?_
  refine xr_lamC (k := 8) F hmn.2 dX1_part_47 rfl rfl (xroom hRm (Nat.le_of_ble_eq_true rfl) (Nat.le_of_ble_eq_true rfl)) (xcat (Nat.le_of_ble_eq_true rfl)) (fun v47 => ?_)
  refine xr_aastL (v := v47) (r := (some v2)) F dX1_part_52 rfl xokPart_ok ?_
  refine xr_dup F dX1_part_53 (xrf_cat _) ?_
  refine xr_bipush (6 : Int32) F dX1_part_54 rfl ?_
  refine xr_lamC (k := 9) F hmn.2 dX1_part_56 rfl rfl (xroom hRm (Nat.le_of_ble_eq_true rfl) (Nat.le_of_ble_eq_true rfl)) (xcat (Nat.le_of_ble_eq_true rfl)) (fun v56 => ?_)
  refine xr_aastL (v := v56) (r := (some v2)) F dX1_part_61 rfl xokPart_ok ?_
  refine xs_a_n [0] F dX1_part_62 hnL rfl rfl (xk2 rfl rfl xk0) ?_
  refine xr_aload_n 0 (r := (some v2)) F dX1_part_63 rfl ?_
  refine xr_iload_n 1 F dX1_part_64 rfl ?_
  refine xr_aald (r := (some v2)) F dX1_part_65 (fun v65 => ?_)
  exact xr_aret (v := v65) F dX1_part_66 (Or.inl ⟨_, rfl⟩)
theorem fX1_lambda_part_3_m {l : Launch} {D : xD} {s0 : State} {b0 : Nat} {Γ : Nat → Option Nat} (G : xG l D s0 b0 Γ) (p0 : Option Nat) : xMeth l D s0 Γ yX1_lambda_part_3 (Cond.code yX1_lambda_part_3 cX1_lambda_part_3 1 (some .int)) (1) (12) [va_rf p0] xeI (fX1_lambda_part_3 p0) := by
  refine xMeth.of (lv0 := [(0, va_rf p0)]) G (by decide +kernel) (Or.inl rfl) (by simp [lg_sl, xrf_cat, xct_i, xct_l, xct_d, xct_r]) (by simp [lv_args, xrf_cat, xct_i, xct_l, xct_d, xct_r, xrf_some]) (fun x F hnL hRm hmn ht e1 e2 e3 e4 => ?_)
  have hno : ∀ pc, xNo x pc := fun pc z hz => by rw [ht.1 rfl] at hz; cases hz
  unfold fX1_lambda_part_3
  refine xr_aload_n 0 (r := p0) F dX1_lambda_part_3_0 rfl ?_
  refine xr_gI (r := p0) (ref := "ReserveLedger$Ledger") F dX1_lambda_part_3_1 (C := RX9) (T := TX9) (N := 7) rfl (by decide) (Or.inr ⟨_, q1959⟩) (Or.inl rfl) (fun v1 => ?_)
  exact xr_iret F dX1_lambda_part_3_4
theorem xrL_3 {α : Type} {x : xC} {emb : α → Option Value} {own : String} {cc : ByteArray} {ret : Option FieldType} {pc idx cnt : Nat} {lv : List (Nat × Value)} {st st0 : List Value} {kk : Int32 → xM α} {r : Option Nat} (p0 : Option Nat) (F : xF x own cc ret) (hno : xNo x pc) (hd : decode cc pc = .ok (.invokeinterface idx cnt, 5)) (w3 : Cond.methodLink own idx ⟨"ReserveLedger$Part", "of", "(LReserveLedger$Ledger;)I"⟩ ∈ lw_all) (hroom : xRoom x 3 53) (hst : st0 = ([va_rf p0] : List Value).reverse ++ va_rf r :: st) (hcat : (st.map fun v => v.category).sum ≤ 8) (K : ∀ v, xI x emb (pc + 5) lv (.int v :: st) (kk v)) : xI x emb pc lv st0 (xbind (xsel r [(1003, fun z => fL_3 z p0)]) kk) := by
  refine xr_L (k := 3) (x0 := ⟨"ReserveLedger$Part", "of", "(LReserveLedger$Ledger;)I"⟩) (yi := yX1_lambda_part_3) (As := [va_rf p0]) (embb := xeI) (fr := 2) (lo := 32) (fs := []) F hno hd rfl q4100 xlfile_3 xlsec_3 xllaid_3 xlcode_3 xlflags_3 xleN_3 xleC_3 (fun fi i hm => by cases hm) ⟨rfl, rfl, xlS_3.2.symm⟩ ⟨rfl, rfl, xlS_3.1.symm⟩ (by decide +kernel) w3 q2641 q2640 ⟨by decide, by decide⟩ ⟨by decide, by decide⟩ (fun a => by simp [lg_sl, xrf_cat, xct_i, xct_l, xct_d, xct_r]) (fun x1 a F1 hnL hRm hno1 hr e1 e2 e3 e4 => ?_) hroom (show ∀ sig, parseMethodDescriptor "(LReserveLedger$Ledger;)I" = some sig → 1 = sig.parameters.length from xln (by decide +kernel)) hst hcat K
  show xI x1 _ 0 _ [] (fL_3 a p0)
  unfold fL_3
  refine xl_aload 1 (r := p0) F1 xld_3_0 rfl ?_
  refine xl_S (yi := yX1_lambda_part_3) (As := [va_rf p0]) (st := []) (embb := xeI) F1 (hno1 _) hr xld_3_1 (fX1_lambda_part_3_m (xFLG F1) p0) (Or.inl rfl) q2625 q121 q2624 (xroom hRm (Nat.le_of_ble_eq_true rfl) (Nat.le_of_ble_eq_true rfl)) ⟨by decide, by decide⟩ n_X1_lambda_part_3 rfl (xcat (Nat.le_of_ble_eq_true rfl)) (fun v => ?_)
  exact xl_zret F1 xld_3_4 rfl
theorem fX1_lambda_part_4_m {l : Launch} {D : xD} {s0 : State} {b0 : Nat} {Γ : Nat → Option Nat} (G : xG l D s0 b0 Γ) (p0 : Option Nat) : xMeth l D s0 Γ yX1_lambda_part_4 (Cond.code yX1_lambda_part_4 cX1_lambda_part_4 1 (some .int)) (1) (12) [va_rf p0] xeI (fX1_lambda_part_4 p0) := by
  refine xMeth.of (lv0 := [(0, va_rf p0)]) G (by decide +kernel) (Or.inl rfl) (by simp [lg_sl, xrf_cat, xct_i, xct_l, xct_d, xct_r]) (by simp [lv_args, xrf_cat, xct_i, xct_l, xct_d, xct_r, xrf_some]) (fun x F hnL hRm hmn ht e1 e2 e3 e4 => ?_)
  have hno : ∀ pc, xNo x pc := fun pc z hz => by rw [ht.1 rfl] at hz; cases hz
  unfold fX1_lambda_part_4
  refine xr_aload_n 0 (r := p0) F dX1_lambda_part_4_0 rfl ?_
  refine xr_gI (r := p0) (ref := "ReserveLedger$Ledger") F dX1_lambda_part_4_1 (C := RX9) (T := TX9) (N := 7) rfl (by decide) (Or.inr ⟨_, q1962⟩) (Or.inl rfl) (fun v1 => ?_)
  exact xr_iret F dX1_lambda_part_4_4
theorem xrL_4 {α : Type} {x : xC} {emb : α → Option Value} {own : String} {cc : ByteArray} {ret : Option FieldType} {pc idx cnt : Nat} {lv : List (Nat × Value)} {st st0 : List Value} {kk : Int32 → xM α} {r : Option Nat} (p0 : Option Nat) (F : xF x own cc ret) (hno : xNo x pc) (hd : decode cc pc = .ok (.invokeinterface idx cnt, 5)) (w3 : Cond.methodLink own idx ⟨"ReserveLedger$Part", "of", "(LReserveLedger$Ledger;)I"⟩ ∈ lw_all) (hroom : xRoom x 3 53) (hst : st0 = ([va_rf p0] : List Value).reverse ++ va_rf r :: st) (hcat : (st.map fun v => v.category).sum ≤ 8) (K : ∀ v, xI x emb (pc + 5) lv (.int v :: st) (kk v)) : xI x emb pc lv st0 (xbind (xsel r [(1004, fun z => fL_4 z p0)]) kk) := by
  refine xr_L (k := 4) (x0 := ⟨"ReserveLedger$Part", "of", "(LReserveLedger$Ledger;)I"⟩) (yi := yX1_lambda_part_4) (As := [va_rf p0]) (embb := xeI) (fr := 2) (lo := 32) (fs := []) F hno hd rfl q4100 xlfile_4 xlsec_4 xllaid_4 xlcode_4 xlflags_4 xleN_4 xleC_4 (fun fi i hm => by cases hm) ⟨rfl, rfl, xlS_4.2.symm⟩ ⟨rfl, rfl, xlS_4.1.symm⟩ (by decide +kernel) w3 q2641 q2640 ⟨by decide, by decide⟩ ⟨by decide, by decide⟩ (fun a => by simp [lg_sl, xrf_cat, xct_i, xct_l, xct_d, xct_r]) (fun x1 a F1 hnL hRm hno1 hr e1 e2 e3 e4 => ?_) hroom (show ∀ sig, parseMethodDescriptor "(LReserveLedger$Ledger;)I" = some sig → 1 = sig.parameters.length from xln (by decide +kernel)) hst hcat K
  show xI x1 _ 0 _ [] (fL_4 a p0)
  unfold fL_4
  refine xl_aload 1 (r := p0) F1 xld_4_0 rfl ?_
  refine xl_S (yi := yX1_lambda_part_4) (As := [va_rf p0]) (st := []) (embb := xeI) F1 (hno1 _) hr xld_4_1 (fX1_lambda_part_4_m (xFLG F1) p0) (Or.inl rfl) q2627 q121 q2626 (xroom hRm (Nat.le_of_ble_eq_true rfl) (Nat.le_of_ble_eq_true rfl)) ⟨by decide, by decide⟩ n_X1_lambda_part_4 rfl (xcat (Nat.le_of_ble_eq_true rfl)) (fun v => ?_)
  exact xl_zret F1 xld_4_4 rfl
theorem fX1_lambda_part_5_m {l : Launch} {D : xD} {s0 : State} {b0 : Nat} {Γ : Nat → Option Nat} (G : xG l D s0 b0 Γ) (p0 : Option Nat) : xMeth l D s0 Γ yX1_lambda_part_5 (Cond.code yX1_lambda_part_5 cX1_lambda_part_5 1 (some .int)) (1) (12) [va_rf p0] xeI (fX1_lambda_part_5 p0) := by
  refine xMeth.of (lv0 := [(0, va_rf p0)]) G (by decide +kernel) (Or.inl rfl) (by simp [lg_sl, xrf_cat, xct_i, xct_l, xct_d, xct_r]) (by simp [lv_args, xrf_cat, xct_i, xct_l, xct_d, xct_r, xrf_some]) (fun x F hnL hRm hmn ht e1 e2 e3 e4 => ?_)
  have hno : ∀ pc, xNo x pc := fun pc z hz => by rw [ht.1 rfl] at hz; cases hz
  unfold fX1_lambda_part_5
  refine xr_aload_n 0 (r := p0) F dX1_lambda_part_5_0 rfl ?_
  refine xr_gI (r := p0) (ref := "ReserveLedger$Ledger") F dX1_lambda_part_5_1 (C := RX9) (T := TX9) (N := 7) rfl (by decide) (Or.inr ⟨_, q1965⟩) (Or.inl rfl) (fun v1 => ?_)
  exact xr_iret F dX1_lambda_part_5_4
theorem xrL_5 {α : Type} {x : xC} {emb : α → Option Value} {own : String} {cc : ByteArray} {ret : Option FieldType} {pc idx cnt : Nat} {lv : List (Nat × Value)} {st st0 : List Value} {kk : Int32 → xM α} {r : Option Nat} (p0 : Option Nat) (F : xF x own cc ret) (hno : xNo x pc) (hd : decode cc pc = .ok (.invokeinterface idx cnt, 5)) (w3 : Cond.methodLink own idx ⟨"ReserveLedger$Part", "of", "(LReserveLedger$Ledger;)I"⟩ ∈ lw_all) (hroom : xRoom x 3 53) (hst : st0 = ([va_rf p0] : List Value).reverse ++ va_rf r :: st) (hcat : (st.map fun v => v.category).sum ≤ 8) (K : ∀ v, xI x emb (pc + 5) lv (.int v :: st) (kk v)) : xI x emb pc lv st0 (xbind (xsel r [(1005, fun z => fL_5 z p0)]) kk) := by
  refine xr_L (k := 5) (x0 := ⟨"ReserveLedger$Part", "of", "(LReserveLedger$Ledger;)I"⟩) (yi := yX1_lambda_part_5) (As := [va_rf p0]) (embb := xeI) (fr := 2) (lo := 32) (fs := []) F hno hd rfl q4100 xlfile_5 xlsec_5 xllaid_5 xlcode_5 xlflags_5 xleN_5 xleC_5 (fun fi i hm => by cases hm) ⟨rfl, rfl, xlS_5.2.symm⟩ ⟨rfl, rfl, xlS_5.1.symm⟩ (by decide +kernel) w3 q2641 q2640 ⟨by decide, by decide⟩ ⟨by decide, by decide⟩ (fun a => by simp [lg_sl, xrf_cat, xct_i, xct_l, xct_d, xct_r]) (fun x1 a F1 hnL hRm hno1 hr e1 e2 e3 e4 => ?_) hroom (show ∀ sig, parseMethodDescriptor "(LReserveLedger$Ledger;)I" = some sig → 1 = sig.parameters.length from xln (by decide +kernel)) hst hcat K
  show xI x1 _ 0 _ [] (fL_5 a p0)
  unfold fL_5
  refine xl_aload 1 (r := p0) F1 xld_5_0 rfl ?_
  refine xl_S (yi := yX1_lambda_part_5) (As := [va_rf p0]) (st := []) (embb := xeI) F1 (hno1 _) hr xld_5_1 (fX1_lambda_part_5_m (xFLG F1) p0) (Or.inl rfl) q2629 q121 q2628 (xroom hRm (Nat.le_of_ble_eq_true rfl) (Nat.le_of_ble_eq_true rfl)) ⟨by decide, by decide⟩ n_X1_lambda_part_5 rfl (xcat (Nat.le_of_ble_eq_true rfl)) (fun v => ?_)
  exact xl_zret F1 xld_5_4 rfl
theorem fX1_lambda_part_6_m {l : Launch} {D : xD} {s0 : State} {b0 : Nat} {Γ : Nat → Option Nat} (G : xG l D s0 b0 Γ) (p0 : Option Nat) : xMeth l D s0 Γ yX1_lambda_part_6 (Cond.code yX1_lambda_part_6 cX1_lambda_part_6 1 (some .int)) (1) (12) [va_rf p0] xeI (fX1_lambda_part_6 p0) := by
  refine xMeth.of (lv0 := [(0, va_rf p0)]) G (by decide +kernel) (Or.inl rfl) (by simp [lg_sl, xrf_cat, xct_i, xct_l, xct_d, xct_r]) (by simp [lv_args, xrf_cat, xct_i, xct_l, xct_d, xct_r, xrf_some]) (fun x F hnL hRm hmn ht e1 e2 e3 e4 => ?_)
  have hno : ∀ pc, xNo x pc := fun pc z hz => by rw [ht.1 rfl] at hz; cases hz
  unfold fX1_lambda_part_6
  refine xr_aload_n 0 (r := p0) F dX1_lambda_part_6_0 rfl ?_
  refine xr_gI (r := p0) (ref := "ReserveLedger$Ledger") F dX1_lambda_part_6_1 (C := RX9) (T := TX9) (N := 7) rfl (by decide) (Or.inr ⟨_, q1968⟩) (Or.inl rfl) (fun v1 => ?_)
  exact xr_iret F dX1_lambda_part_6_4
theorem xrL_6 {α : Type} {x : xC} {emb : α → Option Value} {own : String} {cc : ByteArray} {ret : Option FieldType} {pc idx cnt : Nat} {lv : List (Nat × Value)} {st st0 : List Value} {kk : Int32 → xM α} {r : Option Nat} (p0 : Option Nat) (F : xF x own cc ret) (hno : xNo x pc) (hd : decode cc pc = .ok (.invokeinterface idx cnt, 5)) (w3 : Cond.methodLink own idx ⟨"ReserveLedger$Part", "of", "(LReserveLedger$Ledger;)I"⟩ ∈ lw_all) (hroom : xRoom x 3 53) (hst : st0 = ([va_rf p0] : List Value).reverse ++ va_rf r :: st) (hcat : (st.map fun v => v.category).sum ≤ 8) (K : ∀ v, xI x emb (pc + 5) lv (.int v :: st) (kk v)) : xI x emb pc lv st0 (xbind (xsel r [(1006, fun z => fL_6 z p0)]) kk) := by
  refine xr_L (k := 6) (x0 := ⟨"ReserveLedger$Part", "of", "(LReserveLedger$Ledger;)I"⟩) (yi := yX1_lambda_part_6) (As := [va_rf p0]) (embb := xeI) (fr := 2) (lo := 32) (fs := []) F hno hd rfl q4100 xlfile_6 xlsec_6 xllaid_6 xlcode_6 xlflags_6 xleN_6 xleC_6 (fun fi i hm => by cases hm) ⟨rfl, rfl, xlS_6.2.symm⟩ ⟨rfl, rfl, xlS_6.1.symm⟩ (by decide +kernel) w3 q2641 q2640 ⟨by decide, by decide⟩ ⟨by decide, by decide⟩ (fun a => by simp [lg_sl, xrf_cat, xct_i, xct_l, xct_d, xct_r]) (fun x1 a F1 hnL hRm hno1 hr e1 e2 e3 e4 => ?_) hroom (show ∀ sig, parseMethodDescriptor "(LReserveLedger$Ledger;)I" = some sig → 1 = sig.parameters.length from xln (by decide +kernel)) hst hcat K
  show xI x1 _ 0 _ [] (fL_6 a p0)
  unfold fL_6
  refine xl_aload 1 (r := p0) F1 xld_6_0 rfl ?_
  refine xl_S (yi := yX1_lambda_part_6) (As := [va_rf p0]) (st := []) (embb := xeI) F1 (hno1 _) hr xld_6_1 (fX1_lambda_part_6_m (xFLG F1) p0) (Or.inl rfl) q2631 q121 q2630 (xroom hRm (Nat.le_of_ble_eq_true rfl) (Nat.le_of_ble_eq_true rfl)) ⟨by decide, by decide⟩ n_X1_lambda_part_6 rfl (xcat (Nat.le_of_ble_eq_true rfl)) (fun v => ?_)
  exact xl_zret F1 xld_6_4 rfl
theorem fX1_lambda_part_7_m {l : Launch} {D : xD} {s0 : State} {b0 : Nat} {Γ : Nat → Option Nat} (G : xG l D s0 b0 Γ) (p0 : Option Nat) : xMeth l D s0 Γ yX1_lambda_part_7 (Cond.code yX1_lambda_part_7 cX1_lambda_part_7 1 (some .int)) (1) (12) [va_rf p0] xeI (fX1_lambda_part_7 p0) := by
  refine xMeth.of (lv0 := [(0, va_rf p0)]) G (by decide +kernel) (Or.inl rfl) (by simp [lg_sl, xrf_cat, xct_i, xct_l, xct_d, xct_r]) (by simp [lv_args, xrf_cat, xct_i, xct_l, xct_d, xct_r, xrf_some]) (fun x F hnL hRm hmn ht e1 e2 e3 e4 => ?_)
  have hno : ∀ pc, xNo x pc := fun pc z hz => by rw [ht.1 rfl] at hz; cases hz
  unfold fX1_lambda_part_7
  refine xr_aload_n 0 (r := p0) F dX1_lambda_part_7_0 rfl ?_
  refine xr_gI (r := p0) (ref := "ReserveLedger$Ledger") F dX1_lambda_part_7_1 (C := RX9) (T := TX9) (N := 7) rfl (by decide) (Or.inr ⟨_, q1971⟩) (Or.inl rfl) (fun v1 => ?_)
  exact xr_iret F dX1_lambda_part_7_4
theorem xrL_7 {α : Type} {x : xC} {emb : α → Option Value} {own : String} {cc : ByteArray} {ret : Option FieldType} {pc idx cnt : Nat} {lv : List (Nat × Value)} {st st0 : List Value} {kk : Int32 → xM α} {r : Option Nat} (p0 : Option Nat) (F : xF x own cc ret) (hno : xNo x pc) (hd : decode cc pc = .ok (.invokeinterface idx cnt, 5)) (w3 : Cond.methodLink own idx ⟨"ReserveLedger$Part", "of", "(LReserveLedger$Ledger;)I"⟩ ∈ lw_all) (hroom : xRoom x 3 53) (hst : st0 = ([va_rf p0] : List Value).reverse ++ va_rf r :: st) (hcat : (st.map fun v => v.category).sum ≤ 8) (K : ∀ v, xI x emb (pc + 5) lv (.int v :: st) (kk v)) : xI x emb pc lv st0 (xbind (xsel r [(1007, fun z => fL_7 z p0)]) kk) := by
  refine xr_L (k := 7) (x0 := ⟨"ReserveLedger$Part", "of", "(LReserveLedger$Ledger;)I"⟩) (yi := yX1_lambda_part_7) (As := [va_rf p0]) (embb := xeI) (fr := 2) (lo := 32) (fs := []) F hno hd rfl q4100 xlfile_7 xlsec_7 xllaid_7 xlcode_7 xlflags_7 xleN_7 xleC_7 (fun fi i hm => by cases hm) ⟨rfl, rfl, xlS_7.2.symm⟩ ⟨rfl, rfl, xlS_7.1.symm⟩ (by decide +kernel) w3 q2641 q2640 ⟨by decide, by decide⟩ ⟨by decide, by decide⟩ (fun a => by simp [lg_sl, xrf_cat, xct_i, xct_l, xct_d, xct_r]) (fun x1 a F1 hnL hRm hno1 hr e1 e2 e3 e4 => ?_) hroom (show ∀ sig, parseMethodDescriptor "(LReserveLedger$Ledger;)I" = some sig → 1 = sig.parameters.length from xln (by decide +kernel)) hst hcat K
  show xI x1 _ 0 _ [] (fL_7 a p0)
  unfold fL_7
  refine xl_aload 1 (r := p0) F1 xld_7_0 rfl ?_
  refine xl_S (yi := yX1_lambda_part_7) (As := [va_rf p0]) (st := []) (embb := xeI) F1 (hno1 _) hr xld_7_1 (fX1_lambda_part_7_m (xFLG F1) p0) (Or.inl rfl) q2633 q121 q2632 (xroom hRm (Nat.le_of_ble_eq_true rfl) (Nat.le_of_ble_eq_true rfl)) ⟨by decide, by decide⟩ n_X1_lambda_part_7 rfl (xcat (Nat.le_of_ble_eq_true rfl)) (fun v => ?_)
  exact xl_zret F1 xld_7_4 rfl
theorem fX1_lambda_part_8_m {l : Launch} {D : xD} {s0 : State} {b0 : Nat} {Γ : Nat → Option Nat} (G : xG l D s0 b0 Γ) (p0 : Option Nat) : xMeth l D s0 Γ yX1_lambda_part_8 (Cond.code yX1_lambda_part_8 cX1_lambda_part_8 1 (some .int)) (1) (12) [va_rf p0] xeI (fX1_lambda_part_8 p0) := by
  refine xMeth.of (lv0 := [(0, va_rf p0)]) G (by decide +kernel) (Or.inl rfl) (by simp [lg_sl, xrf_cat, xct_i, xct_l, xct_d, xct_r]) (by simp [lv_args, xrf_cat, xct_i, xct_l, xct_d, xct_r, xrf_some]) (fun x F hnL hRm hmn ht e1 e2 e3 e4 => ?_)
  have hno : ∀ pc, xNo x pc := fun pc z hz => by rw [ht.1 rfl] at hz; cases hz
  unfold fX1_lambda_part_8
  refine xr_aload_n 0 (r := p0) F dX1_lambda_part_8_0 rfl ?_
  refine xr_gI (r := p0) (ref := "ReserveLedger$Ledger") F dX1_lambda_part_8_1 (C := RX9) (T := TX9) (N := 7) rfl (by decide) (Or.inr ⟨_, q1974⟩) (Or.inl rfl) (fun v1 => ?_)
  exact xr_iret F dX1_lambda_part_8_4
theorem xrL_8 {α : Type} {x : xC} {emb : α → Option Value} {own : String} {cc : ByteArray} {ret : Option FieldType} {pc idx cnt : Nat} {lv : List (Nat × Value)} {st st0 : List Value} {kk : Int32 → xM α} {r : Option Nat} (p0 : Option Nat) (F : xF x own cc ret) (hno : xNo x pc) (hd : decode cc pc = .ok (.invokeinterface idx cnt, 5)) (w3 : Cond.methodLink own idx ⟨"ReserveLedger$Part", "of", "(LReserveLedger$Ledger;)I"⟩ ∈ lw_all) (hroom : xRoom x 3 53) (hst : st0 = ([va_rf p0] : List Value).reverse ++ va_rf r :: st) (hcat : (st.map fun v => v.category).sum ≤ 8) (K : ∀ v, xI x emb (pc + 5) lv (.int v :: st) (kk v)) : xI x emb pc lv st0 (xbind (xsel r [(1008, fun z => fL_8 z p0)]) kk) := by
  refine xr_L (k := 8) (x0 := ⟨"ReserveLedger$Part", "of", "(LReserveLedger$Ledger;)I"⟩) (yi := yX1_lambda_part_8) (As := [va_rf p0]) (embb := xeI) (fr := 2) (lo := 32) (fs := []) F hno hd rfl q4100 xlfile_8 xlsec_8 xllaid_8 xlcode_8 xlflags_8 xleN_8 xleC_8 (fun fi i hm => by cases hm) ⟨rfl, rfl, xlS_8.2.symm⟩ ⟨rfl, rfl, xlS_8.1.symm⟩ (by decide +kernel) w3 q2641 q2640 ⟨by decide, by decide⟩ ⟨by decide, by decide⟩ (fun a => by simp [lg_sl, xrf_cat, xct_i, xct_l, xct_d, xct_r]) (fun x1 a F1 hnL hRm hno1 hr e1 e2 e3 e4 => ?_) hroom (show ∀ sig, parseMethodDescriptor "(LReserveLedger$Ledger;)I" = some sig → 1 = sig.parameters.length from xln (by decide +kernel)) hst hcat K
  show xI x1 _ 0 _ [] (fL_8 a p0)
  unfold fL_8
  refine xl_aload 1 (r := p0) F1 xld_8_0 rfl ?_
  refine xl_S (yi := yX1_lambda_part_8) (As := [va_rf p0]) (st := []) (embb := xeI) F1 (hno1 _) hr xld_8_1 (fX1_lambda_part_8_m (xFLG F1) p0) (Or.inl rfl) q2635 q121 q2634 (xroom hRm (Nat.le_of_ble_eq_true rfl) (Nat.le_of_ble_eq_true rfl)) ⟨by decide, by decide⟩ n_X1_lambda_part_8 rfl (xcat (Nat.le_of_ble_eq_true rfl)) (fun v => ?_)
  exact xl_zret F1 xld_8_4 rfl
theorem fX1_lambda_part_9_m {l : Launch} {D : xD} {s0 : State} {b0 : Nat} {Γ : Nat → Option Nat} (G : xG l D s0 b0 Γ) (p0 : Option Nat) : xMeth l D s0 Γ yX1_lambda_part_9 (Cond.code yX1_lambda_part_9 cX1_lambda_part_9 1 (some .int)) (1) (12) [va_rf p0] xeI (fX1_lambda_part_9 p0) := by
  refine xMeth.of (lv0 := [(0, va_rf p0)]) G (by decide +kernel) (Or.inl rfl) (by simp [lg_sl, xrf_cat, xct_i, xct_l, xct_d, xct_r]) (by simp [lv_args, xrf_cat, xct_i, xct_l, xct_d, xct_r, xrf_some]) (fun x F hnL hRm hmn ht e1 e2 e3 e4 => ?_)
  have hno : ∀ pc, xNo x pc := fun pc z hz => by rw [ht.1 rfl] at hz; cases hz
  unfold fX1_lambda_part_9
  refine xr_aload_n 0 (r := p0) F dX1_lambda_part_9_0 rfl ?_
  refine xr_gI (r := p0) (ref := "ReserveLedger$Ledger") F dX1_lambda_part_9_1 (C := RX9) (T := TX9) (N := 7) rfl (by decide) (Or.inr ⟨_, q1977⟩) (Or.inl rfl) (fun v1 => ?_)
  exact xr_iret F dX1_lambda_part_9_4
theorem xrL_9 {α : Type} {x : xC} {emb : α → Option Value} {own : String} {cc : ByteArray} {ret : Option FieldType} {pc idx cnt : Nat} {lv : List (Nat × Value)} {st st0 : List Value} {kk : Int32 → xM α} {r : Option Nat} (p0 : Option Nat) (F : xF x own cc ret) (hno : xNo x pc) (hd : decode cc pc = .ok (.invokeinterface idx cnt, 5)) (w3 : Cond.methodLink own idx ⟨"ReserveLedger$Part", "of", "(LReserveLedger$Ledger;)I"⟩ ∈ lw_all) (hroom : xRoom x 3 53) (hst : st0 = ([va_rf p0] : List Value).reverse ++ va_rf r :: st) (hcat : (st.map fun v => v.category).sum ≤ 8) (K : ∀ v, xI x emb (pc + 5) lv (.int v :: st) (kk v)) : xI x emb pc lv st0 (xbind (xsel r [(1009, fun z => fL_9 z p0)]) kk) := by
  refine xr_L (k := 9) (x0 := ⟨"ReserveLedger$Part", "of", "(LReserveLedger$Ledger;)I"⟩) (yi := yX1_lambda_part_9) (As := [va_rf p0]) (embb := xeI) (fr := 2) (lo := 32) (fs := []) F hno hd rfl q4100 xlfile_9 xlsec_9 xllaid_9 xlcode_9 xlflags_9 xleN_9 xleC_9 (fun fi i hm => by cases hm) ⟨rfl, rfl, xlS_9.2.symm⟩ ⟨rfl, rfl, xlS_9.1.symm⟩ (by decide +kernel) w3 q2641 q2640 ⟨by decide, by decide⟩ ⟨by decide, by decide⟩ (fun a => by simp [lg_sl, xrf_cat, xct_i, xct_l, xct_d, xct_r]) (fun x1 a F1 hnL hRm hno1 hr e1 e2 e3 e4 => ?_) hroom (show ∀ sig, parseMethodDescriptor "(LReserveLedger$Ledger;)I" = some sig → 1 = sig.parameters.length from xln (by decide +kernel)) hst hcat K
  show xI x1 _ 0 _ [] (fL_9 a p0)
  unfold fL_9
  refine xl_aload 1 (r := p0) F1 xld_9_0 rfl ?_
  refine xl_S (yi := yX1_lambda_part_9) (As := [va_rf p0]) (st := []) (embb := xeI) F1 (hno1 _) hr xld_9_1 (fX1_lambda_part_9_m (xFLG F1) p0) (Or.inl rfl) q2637 q121 q2636 (xroom hRm (Nat.le_of_ble_eq_true rfl) (Nat.le_of_ble_eq_true rfl)) ⟨by decide, by decide⟩ n_X1_lambda_part_9 rfl (xcat (Nat.le_of_ble_eq_true rfl)) (fun v => ?_)
  exact xl_zret F1 xld_9_4 rfl
theorem fX1_ledger_m {l : Launch} {D : xD} {s0 : State} {b0 : Nat} {Γ : Nat → Option Nat} (G : xG l D s0 b0 Γ) (a0 : Nat) (p0 : Int32) (p1 : Int32) (p2 : Int32) : xMeth l D s0 Γ yX1_ledger (Cond.code yX1_ledger cX1_ledger 5 (some .int)) (10) (3121) [.ref a0, .int p0, .int p1, .int p2] xeI (fX1_ledger a0 p0 p1 p2) := by
  refine xMeth.of (lv0 := [(0, va_rf (some a0)), (1, .int p0), (2, .int p1), (3, .int p2)]) G (by decide +kernel) (Or.inl rfl) (Nat.le_of_ble_eq_true rfl) rfl (fun x F hnL hRm hmn ht e1 e2 e3 e4 => ?_)
  have hno : ∀ pc, xNo x pc := fun pc z hz => by rw [ht.1 rfl] at hz; cases hz
  unfold fX1_ledger
  refine xr_aload_n 0 (r := (some a0)) F dX1_ledger_0 rfl ?_
  refine xr_iload_n 1 F dX1_ledger_1 rfl ?_
  refine xr_iload_n 2 F dX1_ledger_2 rfl ?_
  refine xr_VR (y := yX1_ledgerOf) (As := [.int p0, .int p1]) (r := (some a0)) F (hno _) dX1_ledger_3 (fun z => fX1_ledgerOf_m (xFG F) z p0 p1) (Or.inl rfl) (ci := 0) (C := RX1) (T := TX1) rfl q2615 q2612 q2614 qs36 (xroom hRm (Nat.le_of_ble_eq_true rfl) (Nat.le_of_ble_eq_true rfl)) ⟨by decide, by decide⟩ n_X1_ledgerOf rfl (xcat (Nat.le_of_ble_eq_true rfl)) (fun v3 => ?_)
  refine xs_a [3] F dX1_ledger_6 hnL rfl rfl (xk2 rfl rfl xk0) ?_
  refine xr_iload_n 1 F dX1_ledger_8 rfl ?_
  refine xr_iconst (0 : Int32) F dX1_ledger_9 rfl ?_
  refine xr_bipush (6 : Int32) F dX1_ledger_10 rfl ?_
  refine xr_SI (y := yX1_inRange) (As := [.int p2, .int (0 : Int32), .int (6 : Int32)]) F (hno _) dX1_ledger_12 (fX1_inRange_m (xFG F) p2 (0 : Int32) (6 : Int32)) (Or.inl rfl) q646 q121 (Or.inl q644) q645 (xroom hRm (Nat.le_of_ble_eq_true rfl) (Nat.le_of_ble_eq_true rfl)) ⟨by decide, by decide⟩ n_X1_inRange rfl (xcat (Nat.le_of_ble_eq_true rfl)) (fun v12 => ?_)
  refine xr_SV (y := yX1_checkThere) (As := [.int v12]) F (hno _) dX1_ledger_15 (fX1_checkThere_m (xFG F) v12) (Or.inl rfl) q2618 q121 (Or.inl q2616) q2617 (xroom hRm (Nat.le_of_ble_eq_true rfl) (Nat.le_of_ble_eq_true rfl)) ⟨by decide, by decide⟩ n_X1_checkThere rfl (xcat (Nat.le_of_ble_eq_true rfl)) (fun _ => ?_)
  refine xr_iload_n 1 F dX1_ledger_18 rfl ?_
  refine xr_SR (y := yX1_part) (As := [.int p2]) F (hno _) dX1_ledger_19 (fX1_part_m (xFG F) p2) (Or.inl rfl) q2621 q121 (Or.inl q2619) q2620 (xroom hRm (Nat.le_of_ble_eq_true rfl) (Nat.le_of_ble_eq_true rfl)) ⟨by decide, by decide⟩ n_X1_part rfl (xcat (Nat.le_of_ble_eq_true rfl)) (fun v19 => ?_)
  refine xr_aload 0 (r := v3) F dX1_ledger_22 rfl ?_
  refine xI.alt2 (Kp := ∀ (v24 : Int32), xI x xeI 29 [(4, va_rf v3), (3, .int p2)] [.int v24] _) ?_ (fun hK => xrL_3 (r := v19) v3 F (hno _) dX1_ledger_24 q2639 (xroom hRm (Nat.le_of_ble_eq_true rfl) (Nat.le_of_ble_eq_true rfl)) rfl (xcat (Nat.le_of_ble_eq_true rfl)) hK) (fun hK => (xI.alt2 hK (fun hK => xrL_4 (r := v19) v3 F (hno _) dX1_ledger_24 q2639 (xroom hRm (Nat.le_of_ble_eq_true rfl) (Nat.le_of_ble_eq_true rfl)) rfl (xcat (Nat.le_of_ble_eq_true rfl)) hK) (fun hK => (xI.alt2 hK (fun hK => xrL_5 (r := v19) v3 F (hno _) dX1_ledger_24 q2639 (xroom hRm (Nat.le_of_ble_eq_true rfl) (Nat.le_of_ble_eq_true rfl)) rfl (xcat (Nat.le_of_ble_eq_true rfl)) hK) (fun hK => (xI.alt2 hK (fun hK => xrL_6 (r := v19) v3 F (hno _) dX1_ledger_24 q2639 (xroom hRm (Nat.le_of_ble_eq_true rfl) (Nat.le_of_ble_eq_true rfl)) rfl (xcat (Nat.le_of_ble_eq_true rfl)) hK) (fun hK => (xI.alt2 hK (fun hK => xrL_7 (r := v19) v3 F (hno _) dX1_ledger_24 q2639 (xroom hRm (Nat.le_of_ble_eq_true rfl) (Nat.le_of_ble_eq_true rfl)) rfl (xcat (Nat.le_of_ble_eq_true rfl)) hK) (fun hK => (xI.alt2 hK (fun hK => xrL_8 (r := v19) v3 F (hno _) dX1_ledger_24 q2639 (xroom hRm (Nat.le_of_ble_eq_true rfl) (Nat.le_of_ble_eq_true rfl)) rfl (xcat (Nat.le_of_ble_eq_true rfl)) hK) (fun hK => (xrL_9 (r := v19) v3 F (hno _) dX1_ledger_24 q2639 (xroom hRm (Nat.le_of_ble_eq_true rfl) (Nat.le_of_ble_eq_true rfl)) rfl (xcat (Nat.le_of_ble_eq_true rfl)) hK))))))))))))
  intro v24
  exact xr_iret F dX1_ledger_29
theorem fX0_ledger_m {l : Launch} {D : xD} {s0 : State} {b0 : Nat} {Γ : Nat → Option Nat} (G : xG l D s0 b0 Γ) (p0 : Option Nat) (p1 : Int32) (p2 : Int32) (p3 : Int32) (p4 : Option Nat) : xMeth l D s0 Γ yX0_ledger (Cond.codeWith yX0_ledger cX0_ledger 6 (some .int) [(0, 12, 15, 25), (0, 12, 19, 19)]) (11) (3145) [va_rf p0, .int p1, .int p2, .int p3, va_rf p4] xeI (fX0_ledger p0 p1 p2 p3 p4) := by
  refine xMeth.of (lv0 := [(0, va_rf p0), (1, .int p1), (2, .int p2), (3, .int p3), (4, va_rf p4)]) G (by decide +kernel) (Or.inr ⟨_, rfl⟩) (by simp [lg_sl, xrf_cat, xct_i, xct_l, xct_d, xct_r]) (by simp [lv_args, xrf_cat, xct_i, xct_l, xct_d, xct_r, xrf_some]) (fun x F hnL hRm hmn ht e1 e2 e3 e4 => ?_)
  have htb : x.2.2.2.2.2.2.2.2.2.1.exceptionTable.toList = tableOf [(0, 12, 15, 25), (0, 12, 19, 19)] := ht.2 _ rfl
  unfold fX0_ledger
  refine xr_aload 4 (r := p4) F dX0_ledger_0 rfl ?_
  refine xr_iconst (0 : Int32) F dX0_ledger_2 rfl ?_
  refine xr_aload_n 0 (r := p0) F dX0_ledger_3 rfl ?_
  refine xr_iload_n 1 F dX0_ledger_4 rfl ?_
  refine xr_iload_n 2 F dX0_ledger_5 rfl ?_
  refine xr_iload_n 3 F dX0_ledger_6 rfl ?_
  refine xr_VIT (y := yX1_ledger) (As := [.int p1, .int p2, .int p3]) (r := p0) F dX0_ledger_7 (fun z => fX1_ledger_m (xFG F) z p1 p2 p3) (Or.inl rfl) (ci := 0) (C := RX1) (T := TX1) rfl q2611 q2608 q2609 q2610 (xroom hRm (Nat.le_of_ble_eq_true rfl) (Nat.le_of_ble_eq_true rfl)) ⟨by decide, by decide⟩ n_X1_ledger rfl (xcat (Nat.le_of_ble_eq_true rfl)) (fun v7 => ?_) (fun q => ?_)
  · refine xr_i2l F dX0_ledger_10 ?_
    refine xr_last (r := p4) F dX0_ledger_11 ?_
    refine xr_goto 23 F dX0_ledger_12 rfl ?_
    refine xr_iconst (0 : Int32) F dX0_ledger_23 rfl ?_
    exact xr_iret F dX0_ledger_24
  · refine xT.sel2 ?_ ?_
    · refine xT.catch F htb (tableOf []) ⟨0, 12, 15, 25⟩ (tableOf [(0, 12, 19, 19)]) rfl rfl xps0 rfl (Or.inr ⟨by decide, _, q2481, q739⟩) ?_
      refine xs_a [] F dX0_ledger_15 hnL rfl rfl xk0 ?_
      refine xr_iconst (1 : Int32) F dX0_ledger_17 rfl ?_
      exact xr_iret F dX0_ledger_18
    refine xT.catch F htb (tableOf [(0, 12, 15, 25)]) ⟨0, 12, 19, 19⟩ (tableOf []) rfl rfl (xps1 (Or.inr ⟨by decide, _, 0, q2481, rfl⟩) xps0) rfl (Or.inr ⟨by decide, _, q2471, q924⟩) ?_
    refine xs_a [] F dX0_ledger_19 hnL rfl rfl xk0 ?_
    refine xr_iconst (2 : Int32) F dX0_ledger_21 rfl ?_
    exact xr_iret F dX0_ledger_22
theorem fJ29_compare_m {l : Launch} {D : xD} {s0 : State} {b0 : Nat} {Γ : Nat → Option Nat} (G : xG l D s0 b0 Γ) (a0 : Nat) (p0 : Option Nat) (p1 : Option Nat) : xMeth l D s0 Γ yJ29_compare (Cond.code yJ29_compare cJ29_compare 3 (some .int)) (5) (98) [.ref a0, va_rf p0, va_rf p1] xeI (fJ29_compare a0 p0 p1) := by
  refine xMeth.of (lv0 := [(0, va_rf (some a0)), (1, va_rf p0), (2, va_rf p1)]) G (by decide +kernel) (Or.inl rfl) (by simp [lg_sl, xrf_cat, xct_i, xct_l, xct_d, xct_r]) (by simp [lv_args, xrf_cat, xct_i, xct_l, xct_d, xct_r, xrf_some]) (fun x F hnL hRm hmn ht e1 e2 e3 e4 => ?_)
  have hno : ∀ pc, xNo x pc := fun pc z hz => by rw [ht.1 rfl] at hz; cases hz
  unfold fJ29_compare
  refine xr_aload_n 0 (r := (some a0)) F dJ29_compare_0 rfl ?_
  refine xr_gR (r := (some a0)) (ref := "java/util/TreeMap") F dJ29_compare_1 (C := RJ29) (T := TJ29) (N := 9) rfl (by decide) (Or.inl q1887) (Or.inl rfl) (fun v1 => ?_)
  refine xr_ifnonnull 20 F dJ29_compare_4 rfl ?_ ?_
  · refine xr_aload_n 1 (r := p0) F dJ29_compare_7 rfl ?_
    refine xr_cast (r := p0) F dJ29_compare_8 q1364 xok_4_5_15_40_41_42_43_44_45_46_47_48_49_50_51_52_java_lang_Comparable ?_
    refine xr_aload_n 2 (r := p1) F dJ29_compare_11 rfl ?_
    refine xr_FI (x0 := ⟨"java/lang/Comparable", "compareTo", "(Ljava/lang/Object;)I"⟩) (y := yJ17_compareTo) (As := [va_rf p1]) (r := p0) F (hno _) dJ29_compare_12 (fun z => fJ17_compareTo_m (xFG F) z p1) rfl (ci := 15) (C := RJ17) (T := TJ17) rfl q1452 q1366 q1450 q1448 q1368 q1367 q1451 q1449 q1447 (xroom hRm (Nat.le_of_ble_eq_true rfl) (Nat.le_of_ble_eq_true rfl)) ⟨by decide, by decide⟩ n_J17_compareTo rfl (xcat (Nat.le_of_ble_eq_true rfl)) (fun v12 => ?_)
    refine xr_goto 31 F dJ29_compare_17 rfl ?_
    exact xr_iret F dJ29_compare_31
  · refine xr_aload_n 0 (r := (some a0)) F dJ29_compare_20 rfl ?_
    refine xr_gR (r := (some a0)) (ref := "java/util/TreeMap") F dJ29_compare_21 (C := RJ29) (T := TJ29) (N := 9) rfl (by decide) (Or.inl q1887) (Or.inl rfl) (fun v21 => ?_)
    refine xr_aload_n 1 (r := p0) F dJ29_compare_24 rfl ?_
    refine xr_aload_n 2 (r := p1) F dJ29_compare_25 rfl ?_
    refine xr_FI (x0 := ⟨"java/util/Comparator", "compare", "(Ljava/lang/Object;Ljava/lang/Object;)I"⟩) (y := yX16_compare) (As := [va_rf p0, va_rf p1]) (r := v21) F (hno _) dJ29_compare_26 (fun z => fX16_compare_m (xFG F) z p0 p1) rfl (ci := 34) (C := RX16) (T := TX16) rfl q1343 q1335 q1341 q1339 q1337 q1336 q1342 q1340 q1338 (xroom hRm (Nat.le_of_ble_eq_true rfl) (Nat.le_of_ble_eq_true rfl)) ⟨by decide, by decide⟩ n_X16_compare rfl (xcat (Nat.le_of_ble_eq_true rfl)) (fun v26 => ?_)
    exact xr_iret F dJ29_compare_31
theorem fJ29_getFloorEntry_p102_ok {x : xC} (F : xF x RJ29 cJ29_getFloorEntry (some (.object "java/util/TreeMap$Entry"))) (hnL : xnL x = 6) (hRm : ∃ dc ds, x.2.2.2.1 = { frames := 6, cells := dc, slots := ds, locals := 120 }) (hno : ∀ pc, xNo x pc) (hmn : xmn x = "getFloorEntry" ∧ xmy x yJ29_getFloorEntry) {k5 : Nat → Option Nat → Option Nat → xM (Option Nat)} (hk5 : ∀ (l0 : Nat) (l1 : Option Nat) (l2 : Option Nat), xI x xeR 5 [(0, va_rf (some l0)), (1, va_rf l1), (2, va_rf l2)] [] (k5 l0 l1 l2)) (l0 : Nat) (l1 : Option Nat) (l2 : Option Nat) : xI x xeR 102 [(0, va_rf (some l0)), (1, va_rf l1), (2, va_rf l2)] [] (fJ29_getFloorEntry_p102 k5 l0 l1 l2) := by
  unfold fJ29_getFloorEntry_p102
  refine xr_goto 5 F dJ29_getFloorEntry_102 rfl ?_
  exact xI.sub [0, 1, 2] rfl (hk5 l0 l1 l2)
theorem fJ29_getFloorEntry_p68_ok {x : xC} (F : xF x RJ29 cJ29_getFloorEntry (some (.object "java/util/TreeMap$Entry"))) (hnL : xnL x = 6) (hRm : ∃ dc ds, x.2.2.2.1 = { frames := 6, cells := dc, slots := ds, locals := 120 }) (hno : ∀ pc, xNo x pc) (hmn : xmn x = "getFloorEntry" ∧ xmy x yJ29_getFloorEntry) : ∀ (n : Nat) (l4 : Option Nat) (l5 : Option Nat), xI x xeR 68 [(4, va_rf l4), (5, va_rf l5)] [] (fJ29_getFloorEntry_p68 n l4 l5) := by
  intro n
  induction n with
  | zero => intro l4 l5; exact xI.stuck
  | succ n ih =>
    intro l4 l5
    unfold fJ29_getFloorEntry_p68
    refine xr_aload 0 (r := l4) F dJ29_getFloorEntry_68 rfl ?_
    refine xr_ifnull 97 F dJ29_getFloorEntry_70 rfl ?_ ?_
    · refine xr_aload 0 (r := l4) F dJ29_getFloorEntry_97 rfl ?_
      exact xr_aret (v := l4) F dJ29_getFloorEntry_99 (Or.inl ⟨_, rfl⟩)
    · refine xr_aload 1 (r := l5) F dJ29_getFloorEntry_73 rfl ?_
      refine xr_aload 0 (r := l4) F dJ29_getFloorEntry_75 rfl ?_
      refine xr_gR (r := l4) (ref := "java/util/TreeMap$Entry") F dJ29_getFloorEntry_77 (C := RJ47) (T := TJ47) (N := 6) rfl (by decide) (Or.inl q3164) (Or.inl rfl) (fun v77 => ?_)
      refine xr_acmp_ne 97 F dJ29_getFloorEntry_80 rfl ?_ ?_
      · refine xr_aload 0 (r := l4) F dJ29_getFloorEntry_83 rfl ?_
        refine xs_a [0] F dJ29_getFloorEntry_85 hnL rfl rfl (xk2 rfl (xrf_cat _) xk0) ?_
        refine xr_aload 1 (r := l4) F dJ29_getFloorEntry_87 rfl ?_
        refine xr_gR (r := l4) (ref := "java/util/TreeMap$Entry") F dJ29_getFloorEntry_89 (C := RJ47) (T := TJ47) (N := 6) rfl (by decide) (Or.inl q3167) (Or.inl rfl) (fun v89 => ?_)
        refine xs_a [0] F dJ29_getFloorEntry_92 hnL rfl rfl (xk1 rfl rfl xk0) ?_
        refine xr_goto 68 F dJ29_getFloorEntry_94 rfl ?_
        exact xI.sub [0, 1] rfl (ih v89 l4)
      · refine xr_aload 0 (r := l4) F dJ29_getFloorEntry_97 rfl ?_
        exact xr_aret (v := l4) F dJ29_getFloorEntry_99 (Or.inl ⟨_, rfl⟩)
theorem fJ29_getFloorEntry_p5_ok {x : xC} (F : xF x RJ29 cJ29_getFloorEntry (some (.object "java/util/TreeMap$Entry"))) (hnL : xnL x = 6) (hRm : ∃ dc ds, x.2.2.2.1 = { frames := 6, cells := dc, slots := ds, locals := 120 }) (hno : ∀ pc, xNo x pc) (hmn : xmn x = "getFloorEntry" ∧ xmy x yJ29_getFloorEntry) : ∀ (n : Nat) (l0 : Nat) (l1 : Option Nat) (l2 : Option Nat), xI x xeR 5 [(0, va_rf (some l0)), (1, va_rf l1), (2, va_rf l2)] [] (fJ29_getFloorEntry_p5 n l0 l1 l2) := by
  intro n
  induction n with
  | zero => intro l0 l1 l2; exact xI.stuck
  | succ n ih =>
    intro l0 l1 l2
    unfold fJ29_getFloorEntry_p5
    refine xr_aload_n 2 (r := l2) F dJ29_getFloorEntry_5 rfl ?_
    refine xr_ifnull 105 F dJ29_getFloorEntry_6 rfl ?_ ?_
    · refine xr_null F dJ29_getFloorEntry_105 ?_
      exact xr_aret (v := none) F dJ29_getFloorEntry_106 (Or.inl ⟨_, rfl⟩)
    · refine xr_aload_n 0 (r := (some l0)) F dJ29_getFloorEntry_9 rfl ?_
      refine xr_aload_n 1 (r := l1) F dJ29_getFloorEntry_10 rfl ?_
      refine xr_aload_n 2 (r := l2) F dJ29_getFloorEntry_11 rfl ?_
      refine xr_gR (r := l2) (ref := "java/util/TreeMap$Entry") F dJ29_getFloorEntry_12 (C := RJ47) (T := TJ47) (N := 6) rfl (by decide) (Or.inl q3160) (Or.inl rfl) (fun v12 => ?_)
      refine xr_VI (y := yJ29_compare) (As := [va_rf l1, va_rf v12]) (r := (some l0)) F (hno _) dJ29_getFloorEntry_15 (fun z => fJ29_compare_m (xFG F) z l1 v12) (Or.inl rfl) (ci := 16) (C := RJ29) (T := TJ29) rfl q2660 q2657 q2658 q2659 (xroom hRm (Nat.le_of_ble_eq_true rfl) (Nat.le_of_ble_eq_true rfl)) ⟨by decide, by decide⟩ n_J29_compare rfl (xcat (Nat.le_of_ble_eq_true rfl)) (fun v15 => ?_)
      refine xs_i_n [0, 1, 2] F dJ29_getFloorEntry_18 hnL rfl rfl (xk1 rfl rfl (xk1 rfl rfl (xk2 rfl (xrf_cat _) xk0))) ?_
      refine xr_iload_n 0 F dJ29_getFloorEntry_19 rfl ?_
      refine xr_if_le 40 F dJ29_getFloorEntry_20 rfl ?_ ?_
      · refine xr_iload_n 0 F dJ29_getFloorEntry_40 rfl ?_
        refine xr_if_ge 100 F dJ29_getFloorEntry_41 rfl ?_ ?_
        · refine xr_aload_n 3 (r := l2) F dJ29_getFloorEntry_100 rfl ?_
          exact xr_aret (v := l2) F dJ29_getFloorEntry_101 (Or.inl ⟨_, rfl⟩)
        · refine xr_aload_n 3 (r := l2) F dJ29_getFloorEntry_44 rfl ?_
          refine xr_gR (r := l2) (ref := "java/util/TreeMap$Entry") F dJ29_getFloorEntry_45 (C := RJ47) (T := TJ47) (N := 6) rfl (by decide) (Or.inl q3164) (Or.inl rfl) (fun v45 => ?_)
          refine xr_ifnull 59 F dJ29_getFloorEntry_48 rfl ?_ ?_
          · refine xr_aload_n 3 (r := l2) F dJ29_getFloorEntry_59 rfl ?_
            refine xr_gR (r := l2) (ref := "java/util/TreeMap$Entry") F dJ29_getFloorEntry_60 (C := RJ47) (T := TJ47) (N := 6) rfl (by decide) (Or.inl q3167) (Or.inl rfl) (fun v60 => ?_)
            refine xs_a [3] F dJ29_getFloorEntry_63 hnL rfl rfl (xk1 rfl rfl xk0) ?_
            refine xr_aload_n 1 (r := l2) F dJ29_getFloorEntry_65 rfl ?_
            refine xs_a [0] F dJ29_getFloorEntry_66 hnL rfl rfl (xk2 rfl (xrf_cat _) xk0) ?_
            exact xI.sub [1, 0] rfl (fJ29_getFloorEntry_p68_ok F hnL hRm hno hmn xFU v60 l2)
          · refine xr_aload_n 3 (r := l2) F dJ29_getFloorEntry_51 rfl ?_
            refine xr_gR (r := l2) (ref := "java/util/TreeMap$Entry") F dJ29_getFloorEntry_52 (C := RJ47) (T := TJ47) (N := 6) rfl (by decide) (Or.inl q3164) (Or.inl rfl) (fun v52 => ?_)
            refine xs_a_n [1, 2] F dJ29_getFloorEntry_55 hnL rfl rfl (xk1 rfl rfl (xk2 rfl (xrf_cat _) xk0)) ?_
            refine xr_goto 102 F dJ29_getFloorEntry_56 rfl ?_
            exact xI.sub [1, 2, 0] rfl (fJ29_getFloorEntry_p102_ok F hnL hRm hno hmn ih l0 l1 v52)
      · refine xr_aload_n 3 (r := l2) F dJ29_getFloorEntry_23 rfl ?_
        refine xr_gR (r := l2) (ref := "java/util/TreeMap$Entry") F dJ29_getFloorEntry_24 (C := RJ47) (T := TJ47) (N := 6) rfl (by decide) (Or.inl q3165) (Or.inl rfl) (fun v24 => ?_)
        refine xr_ifnull 38 F dJ29_getFloorEntry_27 rfl ?_ ?_
        · refine xr_aload_n 3 (r := l2) F dJ29_getFloorEntry_38 rfl ?_
          exact xr_aret (v := l2) F dJ29_getFloorEntry_39 (Or.inl ⟨_, rfl⟩)
        · refine xr_aload_n 3 (r := l2) F dJ29_getFloorEntry_30 rfl ?_
          refine xr_gR (r := l2) (ref := "java/util/TreeMap$Entry") F dJ29_getFloorEntry_31 (C := RJ47) (T := TJ47) (N := 6) rfl (by decide) (Or.inl q3165) (Or.inl rfl) (fun v31 => ?_)
          refine xs_a_n [1, 2] F dJ29_getFloorEntry_34 hnL rfl rfl (xk1 rfl rfl (xk2 rfl (xrf_cat _) xk0)) ?_
          refine xr_goto 102 F dJ29_getFloorEntry_35 rfl ?_
          exact xI.sub [1, 2, 0] rfl (fJ29_getFloorEntry_p102_ok F hnL hRm hno hmn ih l0 l1 v31)
theorem fJ29_getFloorEntry_m {l : Launch} {D : xD} {s0 : State} {b0 : Nat} {Γ : Nat → Option Nat} (G : xG l D s0 b0 Γ) (a0 : Nat) (p0 : Option Nat) : xMeth l D s0 Γ yJ29_getFloorEntry (Cond.code yJ29_getFloorEntry cJ29_getFloorEntry 6 (some (.object "java/util/TreeMap$Entry"))) (6) (120) [.ref a0, va_rf p0] xeR (fJ29_getFloorEntry a0 p0) := by
  refine xMeth.of (lv0 := [(0, va_rf (some a0)), (1, va_rf p0)]) G (by decide +kernel) (Or.inl rfl) (by simp [lg_sl, xrf_cat, xct_i, xct_l, xct_d, xct_r]) (by simp [lv_args, xrf_cat, xct_i, xct_l, xct_d, xct_r, xrf_some]) (fun x F hnL hRm hmn ht e1 e2 e3 e4 => ?_)
  have hno : ∀ pc, xNo x pc := fun pc z hz => by rw [ht.1 rfl] at hz; cases hz
  unfold fJ29_getFloorEntry
  refine xr_aload_n 0 (r := (some a0)) F dJ29_getFloorEntry_0 rfl ?_
  refine xr_gR (r := (some a0)) (ref := "java/util/TreeMap") F dJ29_getFloorEntry_1 (C := RJ29) (T := TJ29) (N := 9) rfl (by decide) (Or.inl q1888) (Or.inl rfl) (fun v1 => ?_)
  refine xs_a_n [0, 1] F dJ29_getFloorEntry_4 hnL rfl rfl (xk1 rfl rfl (xk2 rfl (xrf_cat _) xk0)) ?_
  exact xI.sub [1, 2, 0] rfl (fJ29_getFloorEntry_p5_ok F hnL hRm hno hmn xFU a0 p0 v1)
theorem fJ47_getKey_m {l : Launch} {D : xD} {s0 : State} {b0 : Nat} {Γ : Nat → Option Nat} (G : xG l D s0 b0 Γ) (a0 : Nat) : xMeth l D s0 Γ yJ47_getKey (Cond.code yJ47_getKey cJ47_getKey 1 (some (.object "java/lang/Object"))) (1) (12) [.ref a0] xeR (fJ47_getKey a0) := by
  refine xMeth.of (lv0 := [(0, va_rf (some a0))]) G (by decide +kernel) (Or.inl rfl) (Nat.le_of_ble_eq_true rfl) rfl (fun x F hnL hRm hmn ht e1 e2 e3 e4 => ?_)
  have hno : ∀ pc, xNo x pc := fun pc z hz => by rw [ht.1 rfl] at hz; cases hz
  unfold fJ47_getKey
  refine xr_aload_n 0 (r := (some a0)) F dJ47_getKey_0 rfl ?_
  refine xr_gR (r := (some a0)) (ref := "java/util/TreeMap$Entry") F dJ47_getKey_1 (C := RJ47) (T := TJ47) (N := 6) rfl (by decide) (Or.inl q3159) (Or.inl rfl) (fun v1 => ?_)
  exact xr_aret (v := v1) F dJ47_getKey_4 (Or.inl ⟨_, rfl⟩)
theorem fJ47_getValue_m {l : Launch} {D : xD} {s0 : State} {b0 : Nat} {Γ : Nat → Option Nat} (G : xG l D s0 b0 Γ) (a0 : Nat) : xMeth l D s0 Γ yJ47_getValue (Cond.code yJ47_getValue cJ47_getValue 1 (some (.object "java/lang/Object"))) (1) (12) [.ref a0] xeR (fJ47_getValue a0) := by
  refine xMeth.of (lv0 := [(0, va_rf (some a0))]) G (by decide +kernel) (Or.inl rfl) (Nat.le_of_ble_eq_true rfl) rfl (fun x F hnL hRm hmn ht e1 e2 e3 e4 => ?_)
  have hno : ∀ pc, xNo x pc := fun pc z hz => by rw [ht.1 rfl] at hz; cases hz
  unfold fJ47_getValue
  refine xr_aload_n 0 (r := (some a0)) F dJ47_getValue_0 rfl ?_
  refine xr_gR (r := (some a0)) (ref := "java/util/TreeMap$Entry") F dJ47_getValue_1 (C := RJ47) (T := TJ47) (N := 6) rfl (by decide) (Or.inl q3161) (Or.inl rfl) (fun v1 => ?_)
  exact xr_aret (v := v1) F dJ47_getValue_4 (Or.inl ⟨_, rfl⟩)
theorem fJ35_init_m {l : Launch} {D : xD} {s0 : State} {b0 : Nat} {Γ : Nat → Option Nat} (G : xG l D s0 b0 Γ) (a0 : Nat) (p0 : Option Nat) : xMeth l D s0 Γ yJ35_init (Cond.code yJ35_init cJ35_init 2 none) (2) (32) [.ref a0, va_rf p0] xeV (fJ35_init a0 p0) := by
  refine xMeth.of (lv0 := [(0, va_rf (some a0)), (1, va_rf p0)]) G (by decide +kernel) (Or.inl rfl) (by simp [lg_sl, xrf_cat, xct_i, xct_l, xct_d, xct_r]) (by simp [lv_args, xrf_cat, xct_i, xct_l, xct_d, xct_r, xrf_some]) (fun x F hnL hRm hmn ht e1 e2 e3 e4 => ?_)
  have hno : ∀ pc, xNo x pc := fun pc z hz => by rw [ht.1 rfl] at hz; cases hz
  unfold fJ35_init
  refine xr_aload_n 0 (r := (some a0)) F dJ35_init_0 rfl ?_
  refine xr_obj F dJ35_init_1 q2669 q200 (q_objcode) (xroom hRm (Nat.le_of_ble_eq_true rfl) (Nat.le_of_ble_eq_true rfl)) (xcat (Nat.le_of_ble_eq_true rfl)) ?_
  refine xr_aload_n 0 (r := (some a0)) F dJ35_init_4 rfl ?_
  refine xr_aload_n 1 (r := p0) F dJ35_init_5 rfl ?_
  refine xr_FR (x0 := ⟨"java/util/Map$Entry", "getKey", "()Ljava/lang/Object;"⟩) (y := yJ47_getKey) (As := []) (r := p0) F (hno _) dJ35_init_6 (fun z => fJ47_getKey_m (xFG F) z) rfl (ci := 36) (C := RJ47) (T := TJ47) rfl q2685 q2671 q2683 q2681 q2673 q2672 q2684 q2682 q2680 (xroom hRm (Nat.le_of_ble_eq_true rfl) (Nat.le_of_ble_eq_true rfl)) ⟨by decide, by decide⟩ n_J47_getKey rfl (xcat (Nat.le_of_ble_eq_true rfl)) (fun v6 => ?_)
  refine xr_put (r := (some a0)) (ref := "java/util/AbstractMap$SimpleImmutableEntry") F dJ35_init_11 xk_31 (by decide) (Or.inl q2700) (Or.inl rfl) (Or.inr ⟨rfl, hmn.1, rfl, q2700⟩) (xr_rf _ _) ?_
  refine xr_aload_n 0 (r := (some a0)) F dJ35_init_14 rfl ?_
  refine xr_aload_n 1 (r := p0) F dJ35_init_15 rfl ?_
  refine xr_FR (x0 := ⟨"java/util/Map$Entry", "getValue", "()Ljava/lang/Object;"⟩) (y := yJ47_getValue) (As := []) (r := p0) F (hno _) dJ35_init_16 (fun z => fJ47_getValue_m (xFG F) z) rfl (ci := 36) (C := RJ47) (T := TJ47) rfl q2699 q2687 q2697 q2695 q2689 q2688 q2698 q2696 q2680 (xroom hRm (Nat.le_of_ble_eq_true rfl) (Nat.le_of_ble_eq_true rfl)) ⟨by decide, by decide⟩ n_J47_getValue rfl (xcat (Nat.le_of_ble_eq_true rfl)) (fun v16 => ?_)
  refine xr_put (r := (some a0)) (ref := "java/util/AbstractMap$SimpleImmutableEntry") F dJ35_init_21 xk_31 (by decide) (Or.inl q2701) (Or.inl rfl) (Or.inr ⟨rfl, hmn.1, rfl, q2701⟩) (xr_rf _ _) ?_
  exact xr_vret F dJ35_init_24
theorem fJ29_exportEntry_m {l : Launch} {D : xD} {s0 : State} {b0 : Nat} {Γ : Nat → Option Nat} (G : xG l D s0 b0 Γ) (p0 : Option Nat) : xMeth l D s0 Γ yJ29_exportEntry (Cond.code yJ29_exportEntry cJ29_exportEntry 1 (some (.object "java/util/Map$Entry"))) (3) (53) [va_rf p0] xeR (fJ29_exportEntry p0) := by
  refine xMeth.of (lv0 := [(0, va_rf p0)]) G (by decide +kernel) (Or.inl rfl) (by simp [lg_sl, xrf_cat, xct_i, xct_l, xct_d, xct_r]) (by simp [lv_args, xrf_cat, xct_i, xct_l, xct_d, xct_r, xrf_some]) (fun x F hnL hRm hmn ht e1 e2 e3 e4 => ?_)
  have hno : ∀ pc, xNo x pc := fun pc z hz => by rw [ht.1 rfl] at hz; cases hz
  unfold fJ29_exportEntry
  refine xr_aload_n 0 (r := p0) F dJ29_exportEntry_0 rfl ?_
  refine xr_ifnonnull 8 F dJ29_exportEntry_1 rfl ?_ ?_
  · refine xr_null F dJ29_exportEntry_4 ?_
    refine xr_goto 16 F dJ29_exportEntry_5 rfl ?_
    exact xr_aret (v := none) F dJ29_exportEntry_16 (Or.inl ⟨_, rfl⟩)
  · refine xr_new F dJ29_exportEntry_8 xk_31 xdf_31 q2664 q2665 q177 (fun v8 => ?_)
    refine xr_dup F dJ29_exportEntry_11 (xrf_cat _) ?_
    refine xr_aload_n 0 (r := p0) F dJ29_exportEntry_12 rfl ?_
    refine xr_IV (y := yJ35_init) (As := [va_rf p0]) F (hno _) dJ29_exportEntry_13 (fJ35_init_m (xFG F) v8 p0) rfl rfl q2668 (Or.inl q2666) q2667 (xroom hRm (Nat.le_of_ble_eq_true rfl) (Nat.le_of_ble_eq_true rfl)) ⟨by decide, by decide⟩ n_J35_init rfl (xcat (Nat.le_of_ble_eq_true rfl)) (fun _ => ?_)
    exact xr_aret (v := (some v8)) F dJ29_exportEntry_16 (Or.inl ⟨_, rfl⟩)
theorem fJ29_floorEntry_m {l : Launch} {D : xD} {s0 : State} {b0 : Nat} {Γ : Nat → Option Nat} (G : xG l D s0 b0 Γ) (a0 : Nat) (p0 : Option Nat) : xMeth l D s0 Γ yJ29_floorEntry (Cond.code yJ29_floorEntry cJ29_floorEntry 2 (some (.object "java/util/Map$Entry"))) (7) (145) [.ref a0, va_rf p0] xeR (fJ29_floorEntry a0 p0) := by
  refine xMeth.of (lv0 := [(0, va_rf (some a0)), (1, va_rf p0)]) G (by decide +kernel) (Or.inl rfl) (by simp [lg_sl, xrf_cat, xct_i, xct_l, xct_d, xct_r]) (by simp [lv_args, xrf_cat, xct_i, xct_l, xct_d, xct_r, xrf_some]) (fun x F hnL hRm hmn ht e1 e2 e3 e4 => ?_)
  have hno : ∀ pc, xNo x pc := fun pc z hz => by rw [ht.1 rfl] at hz; cases hz
  unfold fJ29_floorEntry
  refine xr_aload_n 0 (r := (some a0)) F dJ29_floorEntry_0 rfl ?_
  refine xr_aload_n 1 (r := p0) F dJ29_floorEntry_1 rfl ?_
  refine xr_VR (y := yJ29_getFloorEntry) (As := [va_rf p0]) (r := (some a0)) F (hno _) dJ29_floorEntry_2 (fun z => fJ29_getFloorEntry_m (xFG F) z p0) (Or.inl rfl) (ci := 16) (C := RJ29) (T := TJ29) rfl q2656 q2653 q2654 q2655 (xroom hRm (Nat.le_of_ble_eq_true rfl) (Nat.le_of_ble_eq_true rfl)) ⟨by decide, by decide⟩ n_J29_getFloorEntry rfl (xcat (Nat.le_of_ble_eq_true rfl)) (fun v2 => ?_)
  refine xr_SR (y := yJ29_exportEntry) (As := [va_rf v2]) F (hno _) dJ29_floorEntry_5 (fJ29_exportEntry_m (xFG F) v2) (Or.inl rfl) q2663 q157 (Or.inl q2661) q2662 (xroom hRm (Nat.le_of_ble_eq_true rfl) (Nat.le_of_ble_eq_true rfl)) ⟨by decide, by decide⟩ n_J29_exportEntry rfl (xcat (Nat.le_of_ble_eq_true rfl)) (fun v5 => ?_)
  exact xr_aret (v := v5) F dJ29_floorEntry_8 (Or.inl ⟨_, rfl⟩)
theorem fJ35_getValue_m {l : Launch} {D : xD} {s0 : State} {b0 : Nat} {Γ : Nat → Option Nat} (G : xG l D s0 b0 Γ) (a0 : Nat) : xMeth l D s0 Γ yJ35_getValue (Cond.code yJ35_getValue cJ35_getValue 1 (some (.object "java/lang/Object"))) (1) (12) [.ref a0] xeR (fJ35_getValue a0) := by
  refine xMeth.of (lv0 := [(0, va_rf (some a0))]) G (by decide +kernel) (Or.inl rfl) (Nat.le_of_ble_eq_true rfl) rfl (fun x F hnL hRm hmn ht e1 e2 e3 e4 => ?_)
  have hno : ∀ pc, xNo x pc := fun pc z hz => by rw [ht.1 rfl] at hz; cases hz
  unfold fJ35_getValue
  refine xr_aload_n 0 (r := (some a0)) F dJ35_getValue_0 rfl ?_
  refine xr_gR (r := (some a0)) (ref := "java/util/AbstractMap$SimpleImmutableEntry") F dJ35_getValue_1 (C := RJ35) (T := TJ35) (N := 2) rfl (by decide) (Or.inl q2701) (Or.inl rfl) (fun v1 => ?_)
  exact xr_aret (v := v1) F dJ35_getValue_4 (Or.inl ⟨_, rfl⟩)
theorem fX1_closingUpTo_m {l : Launch} {D : xD} {s0 : State} {b0 : Nat} {Γ : Nat → Option Nat} (G : xG l D s0 b0 Γ) (a0 : Nat) (p0 : Int32) (p1 : Int32) : xMeth l D s0 Γ yX1_closingUpTo (Cond.code yX1_closingUpTo cX1_closingUpTo 4 (some .int)) (8) (166) [.ref a0, .int p0, .int p1] xeI (fX1_closingUpTo a0 p0 p1) := by
  refine xMeth.of (lv0 := [(0, va_rf (some a0)), (1, .int p0), (2, .int p1)]) G (by decide +kernel) (Or.inl rfl) (Nat.le_of_ble_eq_true rfl) rfl (fun x F hnL hRm hmn ht e1 e2 e3 e4 => ?_)
  have hno : ∀ pc, xNo x pc := fun pc z hz => by rw [ht.1 rfl] at hz; cases hz
  unfold fX1_closingUpTo
  refine xr_aload_n 0 (r := (some a0)) F dX1_closingUpTo_0 rfl ?_
  refine xr_iload_n 1 F dX1_closingUpTo_1 rfl ?_
  refine xr_VR (y := yX1_herd) (As := [.int p0]) (r := (some a0)) F (hno _) dX1_closingUpTo_2 (fun z => fX1_herd_m (xFG F) z p0) (Or.inl rfl) (ci := 0) (C := RX1) (T := TX1) rfl q2504 q2501 q2503 qs34 (xroom hRm (Nat.le_of_ble_eq_true rfl) (Nat.le_of_ble_eq_true rfl)) ⟨by decide, by decide⟩ n_X1_herd rfl (xcat (Nat.le_of_ble_eq_true rfl)) (fun v2 => ?_)
  refine xr_gR (r := v2) (ref := "ReserveLedger$Herd") F dX1_closingUpTo_5 (C := RX6) (T := TX6) (N := 8) rfl (by decide) (Or.inr ⟨_, q2037⟩) (Or.inl rfl) (fun v5 => ?_)
  refine xr_gR (r := v5) (ref := "ReserveLedger$Species") F dX1_closingUpTo_8 (C := RX7) (T := TX7) (N := 6) rfl (by decide) (Or.inr ⟨_, q1935⟩) (Or.inl rfl) (fun v8 => ?_)
  refine xr_iload_n 2 F dX1_closingUpTo_11 rfl ?_
  refine xr_SR (y := yJ17_valueOf) (As := [.int p1]) F (hno _) dX1_closingUpTo_12 (fJ17_valueOf_m (xFG F) p1) (Or.inl rfl) q1304 q141 (Or.inl q1675) q1303 (xroom hRm (Nat.le_of_ble_eq_true rfl) (Nat.le_of_ble_eq_true rfl)) ⟨by decide, by decide⟩ n_J17_valueOf rfl (xcat (Nat.le_of_ble_eq_true rfl)) (fun v12 => ?_)
  refine xr_VR (y := yJ29_floorEntry) (As := [va_rf v12]) (r := v8) F (hno _) dX1_closingUpTo_15 (fun z => fJ29_floorEntry_m (xFG F) z v12) (Or.inl rfl) (ci := 16) (C := RJ29) (T := TJ29) rfl q2652 q2649 q2650 q2651 (xroom hRm (Nat.le_of_ble_eq_true rfl) (Nat.le_of_ble_eq_true rfl)) ⟨by decide, by decide⟩ n_J29_floorEntry rfl (xcat (Nat.le_of_ble_eq_true rfl)) (fun v15 => ?_)
  refine xs_a_n [] F dX1_closingUpTo_18 hnL rfl rfl xk0 ?_
  refine xr_aload_n 0 (r := v15) F dX1_closingUpTo_19 rfl ?_
  refine xr_ifnonnull 27 F dX1_closingUpTo_20 rfl ?_ ?_
  · refine xr_iconst (-1 : Int32) F dX1_closingUpTo_23 rfl ?_
    refine xr_goto 39 F dX1_closingUpTo_24 rfl ?_
    exact xr_iret F dX1_closingUpTo_39
  · refine xr_aload_n 0 (r := v15) F dX1_closingUpTo_27 rfl ?_
    refine xr_FR (x0 := ⟨"java/util/Map$Entry", "getValue", "()Ljava/lang/Object;"⟩) (y := yJ35_getValue) (As := []) (r := v15) F (hno _) dX1_closingUpTo_28 (fun z => fJ35_getValue_m (xFG F) z) rfl (ci := 31) (C := RJ35) (T := TJ35) rfl q2694 q2708 q2692 q2690 q2689 q2688 q2693 q2691 q2674 (xroom hRm (Nat.le_of_ble_eq_true rfl) (Nat.le_of_ble_eq_true rfl)) ⟨by decide, by decide⟩ n_J35_getValue rfl (xcat (Nat.le_of_ble_eq_true rfl)) (fun v28 => ?_)
    refine xr_castE (ci := 22) (r := v28) F dX1_closingUpTo_33 q1293 rfl ?_
    refine xr_gI (r := v28) (ref := "ReserveLedger$Ledger") F dX1_closingUpTo_36 (C := RX9) (T := TX9) (N := 7) rfl (by decide) (Or.inr ⟨_, q1974⟩) (Or.inl rfl) (fun v36 => ?_)
    exact xr_iret F dX1_closingUpTo_39
theorem fX0_closingUpTo_m {l : Launch} {D : xD} {s0 : State} {b0 : Nat} {Γ : Nat → Option Nat} (G : xG l D s0 b0 Γ) (p0 : Option Nat) (p1 : Int32) (p2 : Int32) (p3 : Option Nat) : xMeth l D s0 Γ yX0_closingUpTo (Cond.codeWith yX0_closingUpTo cX0_closingUpTo 5 (some .int) [(0, 10, 13, 25)]) (9) (189) [va_rf p0, .int p1, .int p2, va_rf p3] xeI (fX0_closingUpTo p0 p1 p2 p3) := by
  refine xMeth.of (lv0 := [(0, va_rf p0), (1, .int p1), (2, .int p2), (3, va_rf p3)]) G (by decide +kernel) (Or.inr ⟨_, rfl⟩) (by simp [lg_sl, xrf_cat, xct_i, xct_l, xct_d, xct_r]) (by simp [lv_args, xrf_cat, xct_i, xct_l, xct_d, xct_r, xrf_some]) (fun x F hnL hRm hmn ht e1 e2 e3 e4 => ?_)
  have htb : x.2.2.2.2.2.2.2.2.2.1.exceptionTable.toList = tableOf [(0, 10, 13, 25)] := ht.2 _ rfl
  unfold fX0_closingUpTo
  refine xr_aload_n 3 (r := p3) F dX0_closingUpTo_0 rfl ?_
  refine xr_iconst (0 : Int32) F dX0_closingUpTo_1 rfl ?_
  refine xr_aload_n 0 (r := p0) F dX0_closingUpTo_2 rfl ?_
  refine xr_iload_n 1 F dX0_closingUpTo_3 rfl ?_
  refine xr_iload_n 2 F dX0_closingUpTo_4 rfl ?_
  refine xr_VIT (y := yX1_closingUpTo) (As := [.int p1, .int p2]) (r := p0) F dX0_closingUpTo_5 (fun z => fX1_closingUpTo_m (xFG F) z p1 p2) (Or.inl rfl) (ci := 0) (C := RX1) (T := TX1) rfl q2648 q2645 q2646 q2647 (xroom hRm (Nat.le_of_ble_eq_true rfl) (Nat.le_of_ble_eq_true rfl)) ⟨by decide, by decide⟩ n_X1_closingUpTo rfl (xcat (Nat.le_of_ble_eq_true rfl)) (fun v5 => ?_) (fun q => ?_)
  · refine xr_i2l F dX0_closingUpTo_8 ?_
    refine xr_last (r := p3) F dX0_closingUpTo_9 ?_
    refine xr_goto 17 F dX0_closingUpTo_10 rfl ?_
    refine xr_iconst (0 : Int32) F dX0_closingUpTo_17 rfl ?_
    exact xr_iret F dX0_closingUpTo_18
  · refine xT.catch F htb (tableOf []) ⟨0, 10, 13, 25⟩ (tableOf []) rfl rfl xps0 rfl (Or.inr ⟨by decide, _, q2481, q739⟩) ?_
    refine xs_a [] F dX0_closingUpTo_13 hnL rfl rfl xk0 ?_
    refine xr_iconst (1 : Int32) F dX0_closingUpTo_15 rfl ?_
    exact xr_iret F dX0_closingUpTo_16
theorem fJ17_intValue_m {l : Launch} {D : xD} {s0 : State} {b0 : Nat} {Γ : Nat → Option Nat} (G : xG l D s0 b0 Γ) (a0 : Nat) : xMeth l D s0 Γ yJ17_intValue (Cond.code yJ17_intValue cJ17_intValue 1 (some .int)) (1) (12) [.ref a0] xeI (fJ17_intValue a0) := by
  refine xMeth.of (lv0 := [(0, va_rf (some a0))]) G (by decide +kernel) (Or.inl rfl) (Nat.le_of_ble_eq_true rfl) rfl (fun x F hnL hRm hmn ht e1 e2 e3 e4 => ?_)
  have hno : ∀ pc, xNo x pc := fun pc z hz => by rw [ht.1 rfl] at hz; cases hz
  unfold fJ17_intValue
  refine xr_aload_n 0 (r := (some a0)) F dJ17_intValue_0 rfl ?_
  refine xr_gI (r := (some a0)) (ref := "java/lang/Integer") F dJ17_intValue_1 (C := RJ17) (T := TJ17) (N := 1) rfl (by decide) (Or.inl q1318) (Or.inl rfl) (fun v1 => ?_)
  exact xr_iret F dJ17_intValue_4
theorem fJ38_hasNext__J39_m {l : Launch} {D : xD} {s0 : State} {b0 : Nat} {Γ : Nat → Option Nat} (G : xG l D s0 b0 Γ) (a0 : Nat) : xMeth l D s0 Γ yJ38_hasNext (Cond.code yJ38_hasNext cJ38_hasNext 1 (some .boolean)) (1) (12) [.ref a0] xeI (fJ38_hasNext__J39 a0) := by
  refine xMeth.of (lv0 := [(0, va_rf (some a0))]) G (by decide +kernel) (Or.inl rfl) (Nat.le_of_ble_eq_true rfl) rfl (fun x F hnL hRm hmn ht e1 e2 e3 e4 => ?_)
  have hno : ∀ pc, xNo x pc := fun pc z hz => by rw [ht.1 rfl] at hz; cases hz
  unfold fJ38_hasNext__J39
  refine xr_aload_n 0 (r := (some a0)) F dJ38_hasNext_0 rfl ?_
  refine xr_gR (r := (some a0)) (ref := "java/util/TreeMap$PrivateEntryIterator") F dJ38_hasNext_1 (C := RJ39) (T := TJ39) (N := 4) rfl (by decide) (Or.inl q1262) (Or.inl rfl) (fun v1 => ?_)
  refine xr_ifnull 11 F dJ38_hasNext_4 rfl ?_ ?_
  · refine xr_iconst (0 : Int32) F dJ38_hasNext_11 rfl ?_
    exact xr_zret F dJ38_hasNext_12 rfl
  · refine xr_iconst (1 : Int32) F dJ38_hasNext_7 rfl ?_
    refine xr_goto 12 F dJ38_hasNext_8 rfl ?_
    exact xr_zret F dJ38_hasNext_12 rfl
theorem fJ29_successor_p18_ok {x : xC} (F : xF x RJ29 cJ29_successor (some (.object "java/util/TreeMap$Entry"))) (hnL : xnL x = 3) (hRm : ∃ dc ds, x.2.2.2.1 = { frames := 1, cells := dc, slots := ds, locals := 12 }) (hno : ∀ pc, xNo x pc) (hmn : xmn x = "successor" ∧ xmy x yJ29_successor) : ∀ (n : Nat) (l1 : Option Nat), xI x xeR 18 [(1, va_rf l1)] [] (fJ29_successor_p18 n l1) := by
  intro n
  induction n with
  | zero => intro l1; exact xI.stuck
  | succ n ih =>
    intro l1
    unfold fJ29_successor_p18
    refine xr_aload_n 0 (r := l1) F dJ29_successor_18 rfl ?_
    refine xr_gR (r := l1) (ref := "java/util/TreeMap$Entry") F dJ29_successor_19 (C := RJ47) (T := TJ47) (N := 6) rfl (by decide) (Or.inl q3164) (Or.inl rfl) (fun v19 => ?_)
    refine xr_ifnull 33 F dJ29_successor_22 rfl ?_ ?_
    · refine xr_aload_n 0 (r := l1) F dJ29_successor_33 rfl ?_
      exact xr_aret (v := l1) F dJ29_successor_34 (Or.inl ⟨_, rfl⟩)
    · refine xr_aload_n 0 (r := l1) F dJ29_successor_25 rfl ?_
      refine xr_gR (r := l1) (ref := "java/util/TreeMap$Entry") F dJ29_successor_26 (C := RJ47) (T := TJ47) (N := 6) rfl (by decide) (Or.inl q3164) (Or.inl rfl) (fun v26 => ?_)
      refine xs_a_n [] F dJ29_successor_29 hnL rfl rfl xk0 ?_
      refine xr_goto 18 F dJ29_successor_30 rfl ?_
      exact xI.sub [0] rfl (ih v26)
theorem fJ29_successor_p42_ok {x : xC} (F : xF x RJ29 cJ29_successor (some (.object "java/util/TreeMap$Entry"))) (hnL : xnL x = 3) (hRm : ∃ dc ds, x.2.2.2.1 = { frames := 1, cells := dc, slots := ds, locals := 12 }) (hno : ∀ pc, xNo x pc) (hmn : xmn x = "successor" ∧ xmy x yJ29_successor) : ∀ (n : Nat) (l1 : Option Nat) (l2 : Option Nat), xI x xeR 42 [(1, va_rf l1), (2, va_rf l2)] [] (fJ29_successor_p42 n l1 l2) := by
  intro n
  induction n with
  | zero => intro l1 l2; exact xI.stuck
  | succ n ih =>
    intro l1 l2
    unfold fJ29_successor_p42
    refine xr_aload_n 0 (r := l1) F dJ29_successor_42 rfl ?_
    refine xr_ifnull 64 F dJ29_successor_43 rfl ?_ ?_
    · refine xr_aload_n 0 (r := l1) F dJ29_successor_64 rfl ?_
      exact xr_aret (v := l1) F dJ29_successor_65 (Or.inl ⟨_, rfl⟩)
    · refine xr_aload_n 1 (r := l2) F dJ29_successor_46 rfl ?_
      refine xr_aload_n 0 (r := l1) F dJ29_successor_47 rfl ?_
      refine xr_gR (r := l1) (ref := "java/util/TreeMap$Entry") F dJ29_successor_48 (C := RJ47) (T := TJ47) (N := 6) rfl (by decide) (Or.inl q3165) (Or.inl rfl) (fun v48 => ?_)
      refine xr_acmp_ne 64 F dJ29_successor_51 rfl ?_ ?_
      · refine xr_aload_n 0 (r := l1) F dJ29_successor_54 rfl ?_
        refine xs_a_n [0] F dJ29_successor_55 hnL rfl rfl (xk2 rfl (xrf_cat _) xk0) ?_
        refine xr_aload_n 1 (r := l1) F dJ29_successor_56 rfl ?_
        refine xr_gR (r := l1) (ref := "java/util/TreeMap$Entry") F dJ29_successor_57 (C := RJ47) (T := TJ47) (N := 6) rfl (by decide) (Or.inl q3167) (Or.inl rfl) (fun v57 => ?_)
        refine xs_a_n [0] F dJ29_successor_60 hnL rfl rfl (xk1 rfl rfl xk0) ?_
        refine xr_goto 42 F dJ29_successor_61 rfl ?_
        exact xI.sub [0, 1] rfl (ih v57 l1)
      · refine xr_aload_n 0 (r := l1) F dJ29_successor_64 rfl ?_
        exact xr_aret (v := l1) F dJ29_successor_65 (Or.inl ⟨_, rfl⟩)
theorem fJ29_successor_m {l : Launch} {D : xD} {s0 : State} {b0 : Nat} {Γ : Nat → Option Nat} (G : xG l D s0 b0 Γ) (p0 : Option Nat) : xMeth l D s0 Γ yJ29_successor (Cond.code yJ29_successor cJ29_successor 3 (some (.object "java/util/TreeMap$Entry"))) (1) (12) [va_rf p0] xeR (fJ29_successor p0) := by
  refine xMeth.of (lv0 := [(0, va_rf p0)]) G (by decide +kernel) (Or.inl rfl) (by simp [lg_sl, xrf_cat, xct_i, xct_l, xct_d, xct_r]) (by simp [lv_args, xrf_cat, xct_i, xct_l, xct_d, xct_r, xrf_some]) (fun x F hnL hRm hmn ht e1 e2 e3 e4 => ?_)
  have hno : ∀ pc, xNo x pc := fun pc z hz => by rw [ht.1 rfl] at hz; cases hz
  unfold fJ29_successor
  refine xr_aload_n 0 (r := p0) F dJ29_successor_0 rfl ?_
  refine xr_ifnonnull 6 F dJ29_successor_1 rfl ?_ ?_
  · refine xr_null F dJ29_successor_4 ?_
    exact xr_aret (v := none) F dJ29_successor_5 (Or.inl ⟨_, rfl⟩)
  · refine xr_aload_n 0 (r := p0) F dJ29_successor_6 rfl ?_
    refine xr_gR (r := p0) (ref := "java/util/TreeMap$Entry") F dJ29_successor_7 (C := RJ47) (T := TJ47) (N := 6) rfl (by decide) (Or.inl q3165) (Or.inl rfl) (fun v7 => ?_)
    refine xr_ifnull 35 F dJ29_successor_10 rfl ?_ ?_
    · refine xr_aload_n 0 (r := p0) F dJ29_successor_35 rfl ?_
      refine xr_gR (r := p0) (ref := "java/util/TreeMap$Entry") F dJ29_successor_36 (C := RJ47) (T := TJ47) (N := 6) rfl (by decide) (Or.inl q3167) (Or.inl rfl) (fun v36 => ?_)
      refine xs_a_n [0] F dJ29_successor_39 hnL rfl rfl (xk2 rfl (xrf_cat _) xk0) ?_
      refine xr_aload_n 1 (r := p0) F dJ29_successor_40 rfl ?_
      refine xs_a_n [0] F dJ29_successor_41 hnL rfl rfl (xk2 rfl (xrf_cat _) xk0) ?_
      exact xI.sub [1, 0] rfl (fJ29_successor_p42_ok F hnL hRm hno hmn xFU v36 p0)
    · refine xr_aload_n 0 (r := p0) F dJ29_successor_13 rfl ?_
      refine xr_gR (r := p0) (ref := "java/util/TreeMap$Entry") F dJ29_successor_14 (C := RJ47) (T := TJ47) (N := 6) rfl (by decide) (Or.inl q3165) (Or.inl rfl) (fun v14 => ?_)
      refine xs_a_n [] F dJ29_successor_17 hnL rfl rfl xk0 ?_
      exact xI.sub [0] rfl (fJ29_successor_p18_ok F hnL hRm hno hmn xFU v14)
theorem fJ38_nextEntry__J39_m {l : Launch} {D : xD} {s0 : State} {b0 : Nat} {Γ : Nat → Option Nat} (G : xG l D s0 b0 Γ) (a0 : Nat) : xMeth l D s0 Γ yJ38_nextEntry (Cond.code yJ38_nextEntry cJ38_nextEntry 2 (some (.object "java/util/TreeMap$Entry"))) (2) (34) [.ref a0] xeR (fJ38_nextEntry__J39 a0) := by
  refine xMeth.of (lv0 := [(0, va_rf (some a0))]) G (by decide +kernel) (Or.inl rfl) (Nat.le_of_ble_eq_true rfl) rfl (fun x F hnL hRm hmn ht e1 e2 e3 e4 => ?_)
  have hno : ∀ pc, xNo x pc := fun pc z hz => by rw [ht.1 rfl] at hz; cases hz
  unfold fJ38_nextEntry__J39
  refine xr_aload_n 0 (r := (some a0)) F dJ38_nextEntry_0 rfl ?_
  refine xr_gR (r := (some a0)) (ref := "java/util/TreeMap$PrivateEntryIterator") F dJ38_nextEntry_1 (C := RJ39) (T := TJ39) (N := 4) rfl (by decide) (Or.inl q1262) (Or.inl rfl) (fun v1 => ?_)
  refine xs_a_n [0] F dJ38_nextEntry_4 hnL rfl rfl (xk2 rfl (xrf_cat _) xk0) ?_
  refine xr_aload_n 0 (r := v1) F dJ38_nextEntry_5 rfl ?_
  refine xr_ifnonnull 17 F dJ38_nextEntry_6 rfl ?_ ?_
  · exact xI.stuck
  · refine xr_aload_n 1 (r := (some a0)) F dJ38_nextEntry_17 rfl ?_
    refine xr_gR (r := (some a0)) (ref := "java/util/TreeMap$PrivateEntryIterator") F dJ38_nextEntry_18 (C := RJ39) (T := TJ39) (N := 4) rfl (by decide) (Or.inl q1265) (Or.inl rfl) (fun v18 => ?_)
    refine xr_gI (r := v18) (ref := "java/util/TreeMap") F dJ38_nextEntry_21 (C := RJ29) (T := TJ29) (N := 9) rfl (by decide) (Or.inr ⟨_, q1891⟩) (Or.inl rfl) (fun v21 => ?_)
    refine xr_aload_n 1 (r := (some a0)) F dJ38_nextEntry_24 rfl ?_
    refine xr_gI (r := (some a0)) (ref := "java/util/TreeMap$PrivateEntryIterator") F dJ38_nextEntry_25 (C := RJ39) (T := TJ39) (N := 4) rfl (by decide) (Or.inl q1264) (Or.inl rfl) (fun v25 => ?_)
    refine xr_icmp_eq 39 F dJ38_nextEntry_28 rfl ?_ ?_
    · refine xr_aload_n 1 (r := (some a0)) F dJ38_nextEntry_39 rfl ?_
      refine xr_aload_n 0 (r := v1) F dJ38_nextEntry_40 rfl ?_
      refine xr_SR (y := yJ29_successor) (As := [va_rf v1]) F (hno _) dJ38_nextEntry_41 (fJ29_successor_m (xFG F) v1) (Or.inl rfl) q1136 q157 (Or.inl q1134) q1135 (xroom hRm (Nat.le_of_ble_eq_true rfl) (Nat.le_of_ble_eq_true rfl)) ⟨by decide, by decide⟩ n_J29_successor rfl (xcat (Nat.le_of_ble_eq_true rfl)) (fun v41 => ?_)
      refine xr_put (r := (some a0)) (ref := "java/util/TreeMap$PrivateEntryIterator") F dJ38_nextEntry_44 xk_13 (by decide) (Or.inl q1262) (Or.inl rfl) (Or.inl rfl) (xr_rf _ _) ?_
      refine xr_aload_n 1 (r := (some a0)) F dJ38_nextEntry_47 rfl ?_
      refine xr_aload_n 0 (r := v1) F dJ38_nextEntry_48 rfl ?_
      refine xr_put (r := (some a0)) (ref := "java/util/TreeMap$PrivateEntryIterator") F dJ38_nextEntry_49 xk_13 (by decide) (Or.inl q1263) (Or.inl rfl) (Or.inl rfl) (xr_rf _ _) ?_
      refine xr_aload_n 0 (r := v1) F dJ38_nextEntry_52 rfl ?_
      exact xr_aret (v := v1) F dJ38_nextEntry_53 (Or.inl ⟨_, rfl⟩)
    · exact xI.stuck
theorem fJ39_next_2_m {l : Launch} {D : xD} {s0 : State} {b0 : Nat} {Γ : Nat → Option Nat} (G : xG l D s0 b0 Γ) (a0 : Nat) : xMeth l D s0 Γ yJ39_next_2 (Cond.code yJ39_next_2 cJ39_next_2 1 (some (.object "java/util/Map$Entry"))) (3) (55) [.ref a0] xeR (fJ39_next_2 a0) := by
  refine xMeth.of (lv0 := [(0, va_rf (some a0))]) G (by decide +kernel) (Or.inl rfl) (Nat.le_of_ble_eq_true rfl) rfl (fun x F hnL hRm hmn ht e1 e2 e3 e4 => ?_)
  have hno : ∀ pc, xNo x pc := fun pc z hz => by rw [ht.1 rfl] at hz; cases hz
  unfold fJ39_next_2
  refine xr_aload_n 0 (r := (some a0)) F dJ39_next_2_0 rfl ?_
  refine xr_UR (x0 := ⟨"java/util/TreeMap$EntryIterator", "nextEntry", "()Ljava/util/TreeMap$Entry;"⟩) (y := yJ38_nextEntry) (As := []) (r := (some a0)) F (hno _) dJ39_next_2_1 (fun z => fJ38_nextEntry__J39_m (xFG F) z) rfl (ci := 13) (C := RJ39) (T := TJ39) rfl q1131 q1126 q1130 q1129 q1127 (Or.inr q1128) (xroom hRm (Nat.le_of_ble_eq_true rfl) (Nat.le_of_ble_eq_true rfl)) ⟨by decide, by decide⟩ n_J38_nextEntry rfl (xcat (Nat.le_of_ble_eq_true rfl)) (fun v1 => ?_)
  exact xr_aret (v := v1) F dJ39_next_2_4 (Or.inl ⟨_, rfl⟩)
theorem fJ39_next_m {l : Launch} {D : xD} {s0 : State} {b0 : Nat} {Γ : Nat → Option Nat} (G : xG l D s0 b0 Γ) (a0 : Nat) : xMeth l D s0 Γ yJ39_next (Cond.code yJ39_next cJ39_next 1 (some (.object "java/lang/Object"))) (4) (75) [.ref a0] xeR (fJ39_next a0) := by
  refine xMeth.of (lv0 := [(0, va_rf (some a0))]) G (by decide +kernel) (Or.inl rfl) (Nat.le_of_ble_eq_true rfl) rfl (fun x F hnL hRm hmn ht e1 e2 e3 e4 => ?_)
  have hno : ∀ pc, xNo x pc := fun pc z hz => by rw [ht.1 rfl] at hz; cases hz
  unfold fJ39_next
  refine xr_aload_n 0 (r := (some a0)) F dJ39_next_0 rfl ?_
  refine xr_VR (y := yJ39_next_2) (As := []) (r := (some a0)) F (hno _) dJ39_next_1 (fun z => fJ39_next_2_m (xFG F) z) (Or.inl rfl) (ci := 13) (C := RJ39) (T := TJ39) rfl q1125 q1122 q1123 q1124 (xroom hRm (Nat.le_of_ble_eq_true rfl) (Nat.le_of_ble_eq_true rfl)) ⟨by decide, by decide⟩ n_J39_next_2 rfl (xcat (Nat.le_of_ble_eq_true rfl)) (fun v1 => ?_)
  exact xr_aret (v := v1) F dJ39_next_4 (Or.inl ⟨_, rfl⟩)
