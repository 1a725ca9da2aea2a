theorem fJ19_unlinkFirst_p42_ok {x : xC} (F : xF x RJ19 cJ19_unlinkFirst (some (.object "java/lang/Object"))) (hnL : xnL x = 4) (hRm : ∃ dc ds, x.2.2.2.1 = { frames := 1, cells := dc, slots := ds, locals := 12 }) (hno : ∀ pc, xNo x pc) (hmn : xmn x = "unlinkFirst" ∧ xmy x yJ19_unlinkFirst) (l0 : Nat) (l2 : Option Nat) : xI x xeR 42 [(0, va_rf (some l0)), (2, va_rf l2)] [] (fJ19_unlinkFirst_p42 l0 l2) := by
  unfold fJ19_unlinkFirst_p42
  refine xr_aload_n 0 (r := (some l0)) F dJ19_unlinkFirst_42 rfl ?_
  refine xr_dup F dJ19_unlinkFirst_43 (xrf_cat _) ?_
  refine xr_gI (r := (some l0)) (ref := "java/util/LinkedList") F dJ19_unlinkFirst_44 (C := RJ19) (T := TJ19) (N := 4) rfl (by decide) (Or.inl q571) (Or.inl rfl) (fun v44 => ?_)
  refine xr_iconst (1 : Int32) F dJ19_unlinkFirst_47 rfl ?_
  refine xr_isub F dJ19_unlinkFirst_48 ?_
  refine xr_put (r := (some l0)) (ref := "java/util/LinkedList") F dJ19_unlinkFirst_49 xk_6 (by decide) (Or.inl q571) (Or.inl rfl) (Or.inl rfl) ⟨rfl, rfl⟩ ?_
  refine xr_aload_n 0 (r := (some l0)) F dJ19_unlinkFirst_52 rfl ?_
  refine xr_dup F dJ19_unlinkFirst_53 (xrf_cat _) ?_
  refine xr_gI (r := (some l0)) (ref := "java/util/LinkedList") F dJ19_unlinkFirst_54 (C := RJ19) (T := TJ19) (N := 4) rfl (by decide) (Or.inl q553) (Or.inr q549) (fun v54 => ?_)
  refine xr_iconst (1 : Int32) F dJ19_unlinkFirst_57 rfl ?_
  refine xr_iadd F dJ19_unlinkFirst_58 ?_
  refine xr_put (r := (some l0)) (ref := "java/util/LinkedList") F dJ19_unlinkFirst_59 xk_6 (by decide) (Or.inl q553) (Or.inr q549) (Or.inl rfl) ⟨rfl, rfl⟩ ?_
  refine xr_aload_n 1 (r := l2) F dJ19_unlinkFirst_62 rfl ?_
  exact xr_aret (v := l2) F dJ19_unlinkFirst_63 (Or.inl ⟨_, rfl⟩)
theorem fJ19_unlinkFirst_m {l : Launch} {D : xD} {s0 : State} {b0 : Nat} {Γ : Nat → Option Nat} (G : xG l D s0 b0 Γ) (a0 : Nat) (p0 : Option Nat) : xMeth l D s0 Γ yJ19_unlinkFirst (Cond.code yJ19_unlinkFirst cJ19_unlinkFirst 4 (some (.object "java/lang/Object"))) (1) (12) [.ref a0, va_rf p0] xeR (fJ19_unlinkFirst a0 p0) := by
  refine xMeth.of (lv0 := [(0, va_rf (some a0)), (1, va_rf p0)]) G (by decide +kernel) (Or.inl rfl) (by simp [lg_sl, xrf_cat, xct_i, xct_l, xct_d, xct_r]) (by simp [lv_args, xrf_cat, xct_i, xct_l, xct_d, xct_r, xrf_some]) (fun x F hnL hRm hmn ht e1 e2 e3 e4 => ?_)
  have hno : ∀ pc, xNo x pc := fun pc z hz => by rw [ht.1 rfl] at hz; cases hz
  unfold fJ19_unlinkFirst
  refine xr_aload_n 1 (r := p0) F dJ19_unlinkFirst_0 rfl ?_
  refine xr_gR (r := p0) (ref := "java/util/LinkedList$Node") F dJ19_unlinkFirst_1 (C := RJ30) (T := TJ30) (N := 3) rfl (by decide) (Or.inl q2124) (Or.inl rfl) (fun v1 => ?_)
  refine xs_a_n [0, 1] F dJ19_unlinkFirst_4 hnL rfl rfl (xk1 rfl rfl (xk2 rfl (xrf_cat _) xk0)) ?_
  refine xr_aload_n 2 (r := p0) F dJ19_unlinkFirst_5 rfl ?_
  refine xr_gR (r := p0) (ref := "java/util/LinkedList$Node") F dJ19_unlinkFirst_6 (C := RJ30) (T := TJ30) (N := 3) rfl (by decide) (Or.inl q2127) (Or.inl rfl) (fun v6 => ?_)
  refine xs_a_n [0, 1, 2] F dJ19_unlinkFirst_9 hnL rfl rfl (xk2 rfl (xrf_cat _) (xk1 rfl rfl (xk1 rfl rfl xk0))) ?_
  refine xr_aload_n 3 (r := p0) F dJ19_unlinkFirst_10 rfl ?_
  refine xr_null F dJ19_unlinkFirst_11 ?_
  refine xr_put (r := p0) (ref := "java/util/LinkedList$Node") F dJ19_unlinkFirst_12 xk_25 (by decide) (Or.inl q2124) (Or.inl rfl) (Or.inl rfl) (xr_rf _ _) ?_
  refine xr_aload_n 3 (r := p0) F dJ19_unlinkFirst_15 rfl ?_
  refine xr_null F dJ19_unlinkFirst_16 ?_
  refine xr_put (r := p0) (ref := "java/util/LinkedList$Node") F dJ19_unlinkFirst_17 xk_25 (by decide) (Or.inl q2127) (Or.inl rfl) (Or.inl rfl) (xr_rf _ _) ?_
  refine xr_aload_n 2 (r := (some a0)) F dJ19_unlinkFirst_20 rfl ?_
  refine xr_aload_n 0 (r := v6) F dJ19_unlinkFirst_21 rfl ?_
  refine xr_put (r := (some a0)) (ref := "java/util/LinkedList") F dJ19_unlinkFirst_22 xk_6 (by decide) (Or.inl q573) (Or.inl rfl) (Or.inl rfl) (xr_rf _ _) ?_
  refine xr_aload_n 0 (r := v6) F dJ19_unlinkFirst_25 rfl ?_
  refine xr_ifnonnull 37 F dJ19_unlinkFirst_26 rfl ?_ ?_
  · refine xr_aload_n 2 (r := (some a0)) F dJ19_unlinkFirst_29 rfl ?_
    refine xr_null F dJ19_unlinkFirst_30 ?_
    refine xr_put (r := (some a0)) (ref := "java/util/LinkedList") F dJ19_unlinkFirst_31 xk_6 (by decide) (Or.inl q574) (Or.inl rfl) (Or.inl rfl) (xr_rf _ _) ?_
    refine xr_goto 42 F dJ19_unlinkFirst_34 rfl ?_
    exact xI.sub [2, 1] rfl (fJ19_unlinkFirst_p42_ok F hnL hRm hno hmn a0 v1)
  · refine xr_aload_n 0 (r := v6) F dJ19_unlinkFirst_37 rfl ?_
    refine xr_null F dJ19_unlinkFirst_38 ?_
    refine xr_put (r := v6) (ref := "java/util/LinkedList$Node") F dJ19_unlinkFirst_39 xk_25 (by decide) (Or.inl q2129) (Or.inl rfl) (Or.inl rfl) (xr_rf _ _) ?_
    exact xI.sub [2, 1] rfl (fJ19_unlinkFirst_p42_ok F hnL hRm hno hmn a0 v1)
theorem fJ19_removeFirst_m {l : Launch} {D : xD} {s0 : State} {b0 : Nat} {Γ : Nat → Option Nat} (G : xG l D s0 b0 Γ) (a0 : Nat) : xMeth l D s0 Γ yJ19_removeFirst (Cond.code yJ19_removeFirst cJ19_removeFirst 2 (some (.object "java/lang/Object"))) (2) (35) [.ref a0] xeR (fJ19_removeFirst a0) := by
  refine xMeth.of (lv0 := [(0, va_rf (some a0))]) G (by decide +kernel) (Or.inl rfl) (Nat.le_of_ble_eq_true rfl) rfl (fun x F hnL hRm hmn ht e1 e2 e3 e4 => ?_)
  have hno : ∀ pc, xNo x pc := fun pc z hz => by rw [ht.1 rfl] at hz; cases hz
  unfold fJ19_removeFirst
  refine xr_aload_n 0 (r := (some a0)) F dJ19_removeFirst_0 rfl ?_
  refine xr_gR (r := (some a0)) (ref := "java/util/LinkedList") F dJ19_removeFirst_1 (C := RJ19) (T := TJ19) (N := 4) rfl (by decide) (Or.inl q573) (Or.inl rfl) (fun v1 => ?_)
  refine xs_a_n [0] F dJ19_removeFirst_4 hnL rfl rfl (xk2 rfl (xrf_cat _) xk0) ?_
  refine xr_aload_n 0 (r := v1) F dJ19_removeFirst_5 rfl ?_
  refine xr_ifnonnull 17 F dJ19_removeFirst_6 rfl ?_ ?_
  · exact xI.stuck
  · refine xr_aload_n 1 (r := (some a0)) F dJ19_removeFirst_17 rfl ?_
    refine xr_aload_n 0 (r := v1) F dJ19_removeFirst_18 rfl ?_
    refine xr_VR (y := yJ19_unlinkFirst) (As := [va_rf v1]) (r := (some a0)) F (hno _) dJ19_removeFirst_19 (fun z => fJ19_unlinkFirst_m (xFG F) z v1) (Or.inl rfl) (ci := 6) (C := RJ19) (T := TJ19) rfl q3020 q3017 q3019 qs41 (xroom hRm (Nat.le_of_ble_eq_true rfl) (Nat.le_of_ble_eq_true rfl)) ⟨by decide, by decide⟩ n_J19_unlinkFirst rfl (xcat (Nat.le_of_ble_eq_true rfl)) (fun v19 => ?_)
    exact xr_aret (v := v19) F dJ19_removeFirst_22 (Or.inl ⟨_, rfl⟩)
theorem fX1_record_p20_ok {x : xC} (F : xF x RX1 cX1_record (some (.object "ReserveLedger$State"))) (hnL : xnL x = 1) (hRm : ∃ dc ds, x.2.2.2.1 = { frames := 8, cells := dc, slots := ds, locals := 200 }) (hno : ∀ pc, xNo x pc) (hmn : xmn x = "record" ∧ xmy x yX1_record) (l0 : Nat) : xI x xeR 20 [(0, va_rf (some l0))] [] (fX1_record_p20 l0) := by
  unfold fX1_record_p20
  refine xr_aload_n 0 (r := (some l0)) F dX1_record_20 rfl ?_
  refine xr_gR (r := (some l0)) (ref := "ReserveLedger") F dX1_record_21 (C := RX1) (T := TX1) (N := 7) rfl (by decide) (Or.inl q615) (Or.inl rfl) (fun v21 => ?_)
  refine xr_aload_n 0 (r := (some l0)) F dX1_record_24 rfl ?_
  refine xr_gR (r := (some l0)) (ref := "ReserveLedger") F dX1_record_25 (C := RX1) (T := TX1) (N := 7) rfl (by decide) (Or.inl q614) (Or.inl rfl) (fun v25 => ?_)
  refine xr_VV (y := yJ19_addLast) (As := [va_rf v25]) (r := v21) F (hno _) dX1_record_28 (fun z => fJ19_addLast_m (xFG F) z v25) (Or.inl rfl) (ci := 6) (C := RJ19) (T := TJ19) rfl q3024 q3021 q3022 q3023 (xroom hRm (Nat.le_of_ble_eq_true rfl) (Nat.le_of_ble_eq_true rfl)) ⟨by decide, by decide⟩ n_J19_addLast rfl (xcat (Nat.le_of_ble_eq_true rfl)) (fun _ => ?_)
  refine xr_aload_n 0 (r := (some l0)) F dX1_record_31 rfl ?_
  refine xr_aload_n 0 (r := (some l0)) F dX1_record_32 rfl ?_
  refine xr_gR (r := (some l0)) (ref := "ReserveLedger") F dX1_record_33 (C := RX1) (T := TX1) (N := 7) rfl (by decide) (Or.inl q614) (Or.inl rfl) (fun v33 => ?_)
  refine xr_VR (y := yX2_copy) (As := []) (r := v33) F (hno _) dX1_record_36 (fun z => fX2_copy_m (xFG F) z) (Or.inl rfl) (ci := 1) (C := RX2) (T := TX2) rfl q3028 q3025 q3026 q3027 (xroom hRm (Nat.le_of_ble_eq_true rfl) (Nat.le_of_ble_eq_true rfl)) ⟨by decide, by decide⟩ n_X2_copy rfl (xcat (Nat.le_of_ble_eq_true rfl)) (fun v36 => ?_)
  refine xr_put (r := (some l0)) (ref := "ReserveLedger") F dX1_record_39 xk_0 (by decide) (Or.inl q614) (Or.inl rfl) (Or.inl rfl) (xr_rf _ _) ?_
  refine xr_aload_n 0 (r := (some l0)) F dX1_record_42 rfl ?_
  refine xr_gR (r := (some l0)) (ref := "ReserveLedger") F dX1_record_43 (C := RX1) (T := TX1) (N := 7) rfl (by decide) (Or.inl q614) (Or.inl rfl) (fun v43 => ?_)
  exact xr_aret (v := v43) F dX1_record_46 (Or.inl ⟨_, rfl⟩)
theorem fX1_record_m {l : Launch} {D : xD} {s0 : State} {b0 : Nat} {Γ : Nat → Option Nat} (G : xG l D s0 b0 Γ) (a0 : Nat) : xMeth l D s0 Γ yX1_record (Cond.code yX1_record cX1_record 1 (some (.object "ReserveLedger$State"))) (8) (200) [.ref a0] xeR (fX1_record a0) := by
  refine xMeth.of (lv0 := [(0, va_rf (some a0))]) G (by decide +kernel) (Or.inl rfl) (Nat.le_of_ble_eq_true rfl) rfl (fun x F hnL hRm hmn ht e1 e2 e3 e4 => ?_)
  have hno : ∀ pc, xNo x pc := fun pc z hz => by rw [ht.1 rfl] at hz; cases hz
  unfold fX1_record
  refine xr_aload_n 0 (r := (some a0)) F dX1_record_0 rfl ?_
  refine xr_gR (r := (some a0)) (ref := "ReserveLedger") F dX1_record_1 (C := RX1) (T := TX1) (N := 7) rfl (by decide) (Or.inl q615) (Or.inl rfl) (fun v1 => ?_)
  refine xr_VI (y := yJ19_size) (As := []) (r := v1) F (hno _) dX1_record_4 (fun z => fJ19_size_m (xFG F) z) (Or.inl rfl) (ci := 6) (C := RJ19) (T := TJ19) rfl q841 q1713 q840 q3998 (xroom hRm (Nat.le_of_ble_eq_true rfl) (Nat.le_of_ble_eq_true rfl)) ⟨by decide, by decide⟩ n_J19_size rfl (xcat (Nat.le_of_ble_eq_true rfl)) (fun v4 => ?_)
  refine xr_bipush (8 : Int32) F dX1_record_7 rfl ?_
  refine xr_icmp_ne 20 F dX1_record_9 rfl ?_ ?_
  · refine xr_aload_n 0 (r := (some a0)) F dX1_record_12 rfl ?_
    refine xr_gR (r := (some a0)) (ref := "ReserveLedger") F dX1_record_13 (C := RX1) (T := TX1) (N := 7) rfl (by decide) (Or.inl q615) (Or.inl rfl) (fun v13 => ?_)
    refine xr_VR (y := yJ19_removeFirst) (As := []) (r := v13) F (hno _) dX1_record_16 (fun z => fJ19_removeFirst_m (xFG F) z) (Or.inl rfl) (ci := 6) (C := RJ19) (T := TJ19) rfl q3016 q3013 q3014 q3015 (xroom hRm (Nat.le_of_ble_eq_true rfl) (Nat.le_of_ble_eq_true rfl)) ⟨by decide, by decide⟩ n_J19_removeFirst rfl (xcat (Nat.le_of_ble_eq_true rfl)) (fun v16 => ?_)
    refine xr_pop F dX1_record_19 (xrf_cat _) ?_
    exact xI.sub [0] rfl (fX1_record_p20_ok F hnL hRm hno hmn a0)
  · exact xI.sub [0] rfl (fX1_record_p20_ok F hnL hRm hno hmn a0)
theorem fX1_pass_p43_ok {x : xC} (F : xF x RX1 cX1_pass (some .int)) (hnL : xnL x = 5) (hRm : ∃ dc ds, x.2.2.2.1 = { frames := 5006, cells := dc, slots := ds, locals := 112128 }) (hno : ∀ pc, xNo x pc) (hmn : xmn x = "pass" ∧ xmy x yX1_pass) : ∀ (n : Nat) (l1 : Int32) (l2 : Option Nat) (l3 : Int32) (l4 : Int32), xI x xeI 43 [(1, .int l1), (2, va_rf l2), (3, .int l3), (4, .int l4)] [] (fX1_pass_p43 n l1 l2 l3 l4) := by
  intro n
  induction n with
  | zero => intro l1 l2 l3 l4; exact xI.stuck
  | succ n ih =>
    intro l1 l2 l3 l4
    unfold fX1_pass_p43
    refine xr_iload 3 F dX1_pass_43 rfl ?_
    refine xr_iload_n 0 F dX1_pass_45 rfl ?_
    refine xr_icmp_ge 62 F dX1_pass_46 rfl ?_ ?_
    · refine xr_iload_n 2 F dX1_pass_62 rfl ?_
      exact xr_iret F dX1_pass_63
    · refine xr_iload_n 2 F dX1_pass_49 rfl ?_
      refine xr_aload_n 1 (r := l2) F dX1_pass_50 rfl ?_
      refine xr_VI (y := yX2_close) (As := []) (r := l2) F (hno _) dX1_pass_51 (fun z => fX2_close_m (xFG F) z) (Or.inl rfl) (ci := 1) (C := RX2) (T := TX2) rfl q3082 q3079 q3080 q3081 (xroom hRm (Nat.le_of_ble_eq_true rfl) (Nat.le_of_ble_eq_true rfl)) ⟨by decide, by decide⟩ n_X2_close rfl (xcat (Nat.le_of_ble_eq_true rfl)) (fun v51 => ?_)
      refine xr_iadd F dX1_pass_54 ?_
      refine xr_letI (fun x3_55 => ?_)
      refine xs_i_n [0, 1, 3] F dX1_pass_55 hnL rfl rfl (xk1 rfl rfl (xk2 rfl (xrf_cat _) (xk1 rfl rfl xk0))) ?_
      refine xs_inc [3, 0, 1, 2] F dX1_pass_56 rfl hnL rfl rfl (xk2 rfl rfl (xk1 rfl rfl (xk1 rfl rfl xk0))) (fun x4_56 => ?_)
      refine xr_goto 43 F dX1_pass_59 rfl ?_
      exact xI.sub [2, 3, 1, 0] rfl (ih l1 l2 x3_55 x4_56)
theorem fX1_pass_p30_ok {x : xC} (F : xF x RX1 cX1_pass (some .int)) (hnL : xnL x = 5) (hRm : ∃ dc ds, x.2.2.2.1 = { frames := 5006, cells := dc, slots := ds, locals := 112128 }) (hno : ∀ pc, xNo x pc) (hmn : xmn x = "pass" ∧ xmy x yX1_pass) (l0 : Nat) (l1 : Int32) (s0 : Int32) : xI x xeI 30 [(0, va_rf (some l0)), (1, .int l1)] [.int s0] (fX1_pass_p30 l0 l1 s0) := by
  unfold fX1_pass_p30
  refine xr_SV (y := yX1_checkState) (As := [.int s0]) F (hno _) dX1_pass_30 (fX1_checkState_m (xFG F) s0) (Or.inl rfl) q2993 q121 (Or.inl q2991) q2992 (xroom hRm (Nat.le_of_ble_eq_true rfl) (Nat.le_of_ble_eq_true rfl)) ⟨by decide, by decide⟩ n_X1_checkState rfl (xcat (Nat.le_of_ble_eq_true rfl)) (fun _ => ?_)
  refine xr_aload_n 0 (r := (some l0)) F dX1_pass_33 rfl ?_
  refine xr_VR (y := yX1_record) (As := []) (r := (some l0)) F (hno _) dX1_pass_34 (fun z => fX1_record_m (xFG F) z) (Or.inl rfl) (ci := 0) (C := RX1) (T := TX1) rfl q3012 q3009 q3011 qs40 (xroom hRm (Nat.le_of_ble_eq_true rfl) (Nat.le_of_ble_eq_true rfl)) ⟨by decide, by decide⟩ n_X1_record rfl (xcat (Nat.le_of_ble_eq_true rfl)) (fun v34 => ?_)
  refine xs_a_n [1] F dX1_pass_37 hnL rfl rfl (xk2 rfl rfl xk0) ?_
  refine xr_iconst (0 : Int32) F dX1_pass_38 rfl ?_
  refine xr_letI (fun x3_39 => ?_)
  refine xs_i_n [0, 1] F dX1_pass_39 hnL rfl rfl (xk2 rfl (xrf_cat _) (xk1 rfl rfl xk0)) ?_
  refine xr_iconst (0 : Int32) F dX1_pass_40 rfl ?_
  refine xr_letI (fun x4_41 => ?_)
  refine xs_i [0, 1, 2] F dX1_pass_41 hnL rfl rfl (xk2 rfl rfl (xk1 rfl rfl (xk1 rfl rfl xk0))) ?_
  exact xI.sub [3, 2, 1, 0] rfl (fX1_pass_p43_ok F hnL hRm hno hmn xFU l1 v34 x3_39 x4_41)
theorem fX1_pass_m {l : Launch} {D : xD} {s0 : State} {b0 : Nat} {Γ : Nat → Option Nat} (G : xG l D s0 b0 Γ) (a0 : Nat) (p0 : Int32) : xMeth l D s0 Γ yX1_pass (Cond.code yX1_pass cX1_pass 5 (some .int)) (5006) (112128) [.ref a0, .int p0] xeI (fX1_pass a0 p0) := by
  refine xMeth.of (lv0 := [(0, va_rf (some a0)), (1, .int p0)]) G (by decide +kernel) (Or.inl rfl) (Nat.le_of_ble_eq_true rfl) rfl (fun x F hnL hRm hmn ht e1 e2 e3 e4 => ?_)
  have hno : ∀ pc, xNo x pc := fun pc z hz => by rw [ht.1 rfl] at hz; cases hz
  unfold fX1_pass
  refine xr_iload_n 1 F dX1_pass_0 rfl ?_
  refine xr_iconst (1 : Int32) F dX1_pass_1 rfl ?_
  refine xr_bipush (50 : Int32) F dX1_pass_2 rfl ?_
  refine xr_SI (y := yX1_inRange) (As := [.int p0, .int (1 : Int32), .int (50 : Int32)]) F (hno _) dX1_pass_4 (fX1_inRange_m (xFG F) p0 (1 : Int32) (50 : Int32)) (Or.inl rfl) q646 q121 (Or.inl q644) q645 (xroom hRm (Nat.le_of_ble_eq_true rfl) (Nat.le_of_ble_eq_true rfl)) ⟨by decide, by decide⟩ n_X1_inRange rfl (xcat (Nat.le_of_ble_eq_true rfl)) (fun v4 => ?_)
  refine xr_SV (y := yX1_checkArgument) (As := [.int v4]) F (hno _) dX1_pass_7 (fX1_checkArgument_m (xFG F) v4) (Or.inl rfl) q2912 q121 (Or.inl q2910) q2911 (xroom hRm (Nat.le_of_ble_eq_true rfl) (Nat.le_of_ble_eq_true rfl)) ⟨by decide, by decide⟩ n_X1_checkArgument rfl (xcat (Nat.le_of_ble_eq_true rfl)) (fun _ => ?_)
  refine xr_aload_n 0 (r := (some a0)) F dX1_pass_10 rfl ?_
  refine xr_gR (r := (some a0)) (ref := "ReserveLedger") F dX1_pass_11 (C := RX1) (T := TX1) (N := 7) rfl (by decide) (Or.inl q614) (Or.inl rfl) (fun v11 => ?_)
  refine xr_gI (r := v11) (ref := "ReserveLedger$State") F dX1_pass_14 (C := RX2) (T := TX2) (N := 5) rfl (by decide) (Or.inr ⟨_, q589⟩) (Or.inl rfl) (fun v14 => ?_)
  refine xr_iload_n 1 F dX1_pass_17 rfl ?_
  refine xr_iadd F dX1_pass_18 ?_
  refine xr_sipush (9999 : Int32) F dX1_pass_19 rfl ?_
  refine xr_icmp_gt 29 F dX1_pass_22 rfl ?_ ?_
  · refine xr_iconst (0 : Int32) F dX1_pass_29 rfl ?_
    exact xI.sub [0, 1] rfl (fX1_pass_p30_ok F hnL hRm hno hmn a0 p0 (0 : Int32))
  · refine xr_iconst (1 : Int32) F dX1_pass_25 rfl ?_
    refine xr_goto 30 F dX1_pass_26 rfl ?_
    exact xI.sub [0, 1] rfl (fX1_pass_p30_ok F hnL hRm hno hmn a0 p0 (1 : Int32))
theorem fX0_pass_m {l : Launch} {D : xD} {s0 : State} {b0 : Nat} {Γ : Nat → Option Nat} (G : xG l D s0 b0 Γ) (p0 : Option Nat) (p1 : Int32) (p2 : Option Nat) : xMeth l D s0 Γ yX0_pass (Cond.codeWith yX0_pass cX0_pass 4 (some .int) [(0, 9, 12, 13), (0, 9, 15, 101)]) (5007) (112152) [va_rf p0, .int p1, va_rf p2] xeI (fX0_pass p0 p1 p2) := by
  refine xMeth.of (lv0 := [(0, va_rf p0), (1, .int p1), (2, va_rf p2)]) G (by decide +kernel) (Or.inr ⟨_, rfl⟩) (by simp [lg_sl, xrf_cat, xct_i, xct_l, xct_d, xct_r]) (by simp [lv_args, xrf_cat, xct_i, xct_l, xct_d, xct_r, xrf_some]) (fun x F hnL hRm hmn ht e1 e2 e3 e4 => ?_)
  have htb : x.2.2.2.2.2.2.2.2.2.1.exceptionTable.toList = tableOf [(0, 9, 12, 13), (0, 9, 15, 101)] := ht.2 _ rfl
  unfold fX0_pass
  refine xr_aload_n 2 (r := p2) F dX0_pass_0 rfl ?_
  refine xr_iconst (0 : Int32) F dX0_pass_1 rfl ?_
  refine xr_aload_n 0 (r := p0) F dX0_pass_2 rfl ?_
  refine xr_iload_n 1 F dX0_pass_3 rfl ?_
  refine xr_VIT (y := yX1_pass) (As := [.int p1]) (r := p0) F dX0_pass_4 (fun z => fX1_pass_m (xFG F) z p1) (Or.inl rfl) (ci := 0) (C := RX1) (T := TX1) rfl q2990 q2987 q2988 q2989 (xroom hRm (Nat.le_of_ble_eq_true rfl) (Nat.le_of_ble_eq_true rfl)) ⟨by decide, by decide⟩ n_X1_pass rfl (xcat (Nat.le_of_ble_eq_true rfl)) (fun v4 => ?_) (fun q => ?_)
  · refine xr_i2l F dX0_pass_7 ?_
    refine xr_last (r := p2) F dX0_pass_8 ?_
    refine xr_goto 18 F dX0_pass_9 rfl ?_
    refine xr_iconst (0 : Int32) F dX0_pass_18 rfl ?_
    exact xr_iret F dX0_pass_19
  · refine xT.sel2 ?_ ?_
    · refine xT.catch F htb (tableOf []) ⟨0, 9, 12, 13⟩ (tableOf [(0, 9, 15, 101)]) rfl rfl xps0 rfl (Or.inr ⟨by decide, _, q1741, q226⟩) ?_
      refine xs_a_n [] F dX0_pass_12 hnL rfl rfl xk0 ?_
      refine xr_iconst (1 : Int32) F dX0_pass_13 rfl ?_
      exact xr_iret F dX0_pass_14
    refine xT.catch F htb (tableOf [(0, 9, 12, 13)]) ⟨0, 9, 15, 101⟩ (tableOf []) rfl rfl (xps1 (Or.inr ⟨by decide, _, 2, q1741, rfl⟩) xps0) rfl (Or.inr ⟨by decide, _, q2986, q2996⟩) ?_
    refine xs_a_n [] F dX0_pass_15 hnL rfl rfl xk0 ?_
    refine xr_iconst (2 : Int32) F dX0_pass_16 rfl ?_
    exact xr_iret F dX0_pass_17
theorem fX1_changed_m {l : Launch} {D : xD} {s0 : State} {b0 : Nat} {Γ : Nat → Option Nat} (G : xG l D s0 b0 Γ) (a0 : Nat) (p0 : Int32) : xMeth l D s0 Γ yX1_changed (Cond.code yX1_changed cX1_changed 2 (some (.object "ReserveLedger$Herd"))) (9) (220) [.ref a0, .int p0] xeR (fX1_changed a0 p0) := by
  refine xMeth.of (lv0 := [(0, va_rf (some a0)), (1, .int p0)]) G (by decide +kernel) (Or.inl rfl) (Nat.le_of_ble_eq_true rfl) rfl (fun x F hnL hRm hmn ht e1 e2 e3 e4 => ?_)
  have hno : ∀ pc, xNo x pc := fun pc z hz => by rw [ht.1 rfl] at hz; cases hz
  unfold fX1_changed
  refine xr_aload_n 0 (r := (some a0)) F dX1_changed_0 rfl ?_
  refine xr_VR (y := yX1_record) (As := []) (r := (some a0)) F (hno _) dX1_changed_1 (fun z => fX1_record_m (xFG F) z) (Or.inl rfl) (ci := 0) (C := RX1) (T := TX1) rfl q3012 q3009 q3011 qs40 (xroom hRm (Nat.le_of_ble_eq_true rfl) (Nat.le_of_ble_eq_true rfl)) ⟨by decide, by decide⟩ n_X1_record rfl (xcat (Nat.le_of_ble_eq_true rfl)) (fun v1 => ?_)
  refine xr_gR (r := v1) (ref := "ReserveLedger$State") F dX1_changed_4 (C := RX2) (T := TX2) (N := 5) rfl (by decide) (Or.inr ⟨_, q584⟩) (Or.inl rfl) (fun v4 => ?_)
  refine xr_iload_n 1 F dX1_changed_7 rfl ?_
  refine xr_FR (x0 := ⟨"java/util/List", "get", "(I)Ljava/lang/Object;"⟩) (y := yJ2_get) (As := [.int p0]) (r := v4) F (hno _) dX1_changed_8 (fun z => fJ2_get_m (xFG F) z p0) rfl (ci := 2) (C := RJ2) (T := TJ2) rfl q901 q2514 q900 q2153 q2152 q2151 q2155 q2154 q688 (xroom hRm (Nat.le_of_ble_eq_true rfl) (Nat.le_of_ble_eq_true rfl)) ⟨by decide, by decide⟩ n_J2_get rfl (xcat (Nat.le_of_ble_eq_true rfl)) (fun v8 => ?_)
  refine xr_castE (ci := 19) (r := v8) F dX1_changed_13 q1145 rfl ?_
  exact xr_aret (v := v8) F dX1_changed_16 (Or.inl ⟨_, rfl⟩)
theorem fX1_take_p45_ok {x : xC} (F : xF x RX1 cX1_take (some .int)) (hnL : xnL x = 6) (hRm : ∃ dc ds, x.2.2.2.1 = { frames := 10, cells := dc, slots := ds, locals := 241 }) (hno : ∀ pc, xNo x pc) (hmn : xmn x = "take" ∧ xmy x yX1_take) (l0 : Nat) (l1 : Int32) (l2 : Int32) (l3 : Int32) (s0 : Int32) : xI x xeI 45 [(0, va_rf (some l0)), (1, .int l1), (2, .int l2), (3, .int l3)] [.int s0] (fX1_take_p45 l0 l1 l2 l3 s0) := by
  unfold fX1_take_p45
  refine xr_SV (y := yX1_checkState) (As := [.int s0]) F (hno _) dX1_take_45 (fX1_checkState_m (xFG F) s0) (Or.inl rfl) q2993 q121 (Or.inl q2991) q2992 (xroom hRm (Nat.le_of_ble_eq_true rfl) (Nat.le_of_ble_eq_true rfl)) ⟨by decide, by decide⟩ n_X1_checkState rfl (xcat (Nat.le_of_ble_eq_true rfl)) (fun _ => ?_)
  refine xr_aload_n 0 (r := (some l0)) F dX1_take_48 rfl ?_
  refine xr_iload_n 1 F dX1_take_49 rfl ?_
  refine xr_VR (y := yX1_changed) (As := [.int l1]) (r := (some l0)) F (hno _) dX1_take_50 (fun z => fX1_changed_m (xFG F) z l1) (Or.inl rfl) (ci := 0) (C := RX1) (T := TX1) rfl q3202 q3199 q3201 qs49 (xroom hRm (Nat.le_of_ble_eq_true rfl) (Nat.le_of_ble_eq_true rfl)) ⟨by decide, by decide⟩ n_X1_changed rfl (xcat (Nat.le_of_ble_eq_true rfl)) (fun v50 => ?_)
  refine xs_a [2, 3] F dX1_take_53 hnL rfl rfl (xk1 rfl rfl (xk1 rfl rfl xk0)) ?_
  refine xr_aload 0 (r := v50) F dX1_take_55 rfl ?_
  refine xr_iload_n 1 F dX1_take_57 rfl ?_
  refine xr_iload_n 2 F dX1_take_58 rfl ?_
  refine xr_VV (y := yX6_take) (As := [.int l2, .int l3]) (r := v50) F (hno _) dX1_take_59 (fun z => fX6_take_m (xFG F) z l2 l3) (Or.inl rfl) (ci := 19) (C := RX6) (T := TX6) rfl q3111 q3203 q3109 q3110 (xroom hRm (Nat.le_of_ble_eq_true rfl) (Nat.le_of_ble_eq_true rfl)) ⟨by decide, by decide⟩ n_X6_take rfl (xcat (Nat.le_of_ble_eq_true rfl)) (fun _ => ?_)
  refine xr_aload 0 (r := v50) F dX1_take_62 rfl ?_
  refine xr_VI (y := yX6_left) (As := []) (r := v50) F (hno _) dX1_take_64 (fun z => fX6_left_m (xFG F) z) (Or.inl rfl) (ci := 19) (C := RX6) (T := TX6) rfl q2520 q2517 q2518 q2519 (xroom hRm (Nat.le_of_ble_eq_true rfl) (Nat.le_of_ble_eq_true rfl)) ⟨by decide, by decide⟩ n_X6_left rfl (xcat (Nat.le_of_ble_eq_true rfl)) (fun v64 => ?_)
  exact xr_iret F dX1_take_67
theorem fX1_take_p44_ok {x : xC} (F : xF x RX1 cX1_take (some .int)) (hnL : xnL x = 6) (hRm : ∃ dc ds, x.2.2.2.1 = { frames := 10, cells := dc, slots := ds, locals := 241 }) (hno : ∀ pc, xNo x pc) (hmn : xmn x = "take" ∧ xmy x yX1_take) (l0 : Nat) (l1 : Int32) (l2 : Int32) (l3 : Int32) : xI x xeI 44 [(0, va_rf (some l0)), (1, .int l1), (2, .int l2), (3, .int l3)] [] (fX1_take_p44 l0 l1 l2 l3) := by
  unfold fX1_take_p44
  refine xr_iconst (0 : Int32) F dX1_take_44 rfl ?_
  exact xI.sub [0, 1, 2, 3] rfl (fX1_take_p45_ok F hnL hRm hno hmn l0 l1 l2 l3 (0 : Int32))
theorem fX1_take_p18_ok {x : xC} (F : xF x RX1 cX1_take (some .int)) (hnL : xnL x = 6) (hRm : ∃ dc ds, x.2.2.2.1 = { frames := 10, cells := dc, slots := ds, locals := 241 }) (hno : ∀ pc, xNo x pc) (hmn : xmn x = "take" ∧ xmy x yX1_take) (l0 : Nat) (l1 : Int32) (l2 : Int32) (l3 : Int32) (l4 : Option Nat) (s0 : Int32) : xI x xeI 18 [(0, va_rf (some l0)), (1, .int l1), (2, .int l2), (3, .int l3), (4, va_rf l4)] [.int s0] (fX1_take_p18 l0 l1 l2 l3 l4 s0) := by
  unfold fX1_take_p18
  refine xr_SV (y := yX1_checkArgument) (As := [.int s0]) F (hno _) dX1_take_18 (fX1_checkArgument_m (xFG F) s0) (Or.inl rfl) q2912 q121 (Or.inl q2910) q2911 (xroom hRm (Nat.le_of_ble_eq_true rfl) (Nat.le_of_ble_eq_true rfl)) ⟨by decide, by decide⟩ n_X1_checkArgument rfl (xcat (Nat.le_of_ble_eq_true rfl)) (fun _ => ?_)
  refine xr_iload_n 3 F dX1_take_21 rfl ?_
  refine xr_aload 4 (r := l4) F dX1_take_22 rfl ?_
  refine xr_iload_n 2 F dX1_take_24 rfl ?_
  refine xr_VI (y := yX6_cohort) (As := [.int l2]) (r := l4) F (hno _) dX1_take_25 (fun z => fX6_cohort_m (xFG F) z l2) (Or.inl rfl) (ci := 19) (C := RX6) (T := TX6) rfl q2323 q2548 q2321 q2322 (xroom hRm (Nat.le_of_ble_eq_true rfl) (Nat.le_of_ble_eq_true rfl)) ⟨by decide, by decide⟩ n_X6_cohort rfl (xcat (Nat.le_of_ble_eq_true rfl)) (fun v25 => ?_)
  refine xr_icmp_gt 44 F dX1_take_28 rfl ?_ ?_
  · exact xI.sub [0, 1, 2, 3] rfl (fX1_take_p44_ok F hnL hRm hno hmn l0 l1 l2 l3)
  · refine xr_iload_n 3 F dX1_take_31 rfl ?_
    refine xr_aload 4 (r := l4) F dX1_take_32 rfl ?_
    refine xr_VI (y := yX6_left) (As := []) (r := l4) F (hno _) dX1_take_34 (fun z => fX6_left_m (xFG F) z) (Or.inl rfl) (ci := 19) (C := RX6) (T := TX6) rfl q2520 q2517 q2518 q2519 (xroom hRm (Nat.le_of_ble_eq_true rfl) (Nat.le_of_ble_eq_true rfl)) ⟨by decide, by decide⟩ n_X6_left rfl (xcat (Nat.le_of_ble_eq_true rfl)) (fun v34 => ?_)
    refine xr_icmp_gt 44 F dX1_take_37 rfl ?_ ?_
    · exact xI.sub [0, 1, 2, 3] rfl (fX1_take_p44_ok F hnL hRm hno hmn l0 l1 l2 l3)
    · refine xr_iconst (1 : Int32) F dX1_take_40 rfl ?_
      refine xr_goto 45 F dX1_take_41 rfl ?_
      exact xI.sub [0, 1, 2, 3] rfl (fX1_take_p45_ok F hnL hRm hno hmn l0 l1 l2 l3 (1 : Int32))
theorem fX1_take_m {l : Launch} {D : xD} {s0 : State} {b0 : Nat} {Γ : Nat → Option Nat} (G : xG l D s0 b0 Γ) (a0 : Nat) (p0 : Int32) (p1 : Int32) (p2 : Int32) : xMeth l D s0 Γ yX1_take (Cond.code yX1_take cX1_take 6 (some .int)) (10) (241) [.ref a0, .int p0, .int p1, .int p2] xeI (fX1_take a0 p0 p1 p2) := by
  refine xMeth.of (lv0 := [(0, va_rf (some a0)), (1, .int p0), (2, .int p1), (3, .int p2)]) G (by decide +kernel) (Or.inl rfl) (Nat.le_of_ble_eq_true rfl) rfl (fun x F hnL hRm hmn ht e1 e2 e3 e4 => ?_)
  have hno : ∀ pc, xNo x pc := fun pc z hz => by rw [ht.1 rfl] at hz; cases hz
  unfold fX1_take
  refine xr_aload_n 0 (r := (some a0)) F dX1_take_0 rfl ?_
  refine xr_iload_n 1 F dX1_take_1 rfl ?_
  refine xr_iload_n 2 F dX1_take_2 rfl ?_
  refine xr_VR (y := yX1_herdWith) (As := [.int p0, .int p1]) (r := (some a0)) F (hno _) dX1_take_3 (fun z => fX1_herdWith_m (xFG F) z p0 p1) (Or.inl rfl) (ci := 0) (C := RX1) (T := TX1) rfl q2533 q2530 q2532 qs35 (xroom hRm (Nat.le_of_ble_eq_true rfl) (Nat.le_of_ble_eq_true rfl)) ⟨by decide, by decide⟩ n_X1_herdWith rfl (xcat (Nat.le_of_ble_eq_true rfl)) (fun v3 => ?_)
  refine xs_a [0, 1, 2, 3] F dX1_take_6 hnL rfl rfl (xk1 rfl rfl (xk1 rfl rfl (xk1 rfl rfl (xk2 rfl rfl xk0)))) ?_
  refine xr_iload_n 4 F dX1_take_8 rfl ?_
  refine xr_iconst (1 : Int32) F dX1_take_9 rfl ?_
  refine xr_icmp_lt 17 F dX1_take_10 rfl ?_ ?_
  · refine xr_iconst (0 : Int32) F dX1_take_17 rfl ?_
    exact xI.sub [1, 2, 3, 4, 0] rfl (fX1_take_p18_ok F hnL hRm hno hmn a0 p0 p1 p2 v3 (0 : Int32))
  · refine xr_iconst (1 : Int32) F dX1_take_13 rfl ?_
    refine xr_goto 18 F dX1_take_14 rfl ?_
    exact xI.sub [1, 2, 3, 4, 0] rfl (fX1_take_p18_ok F hnL hRm hno hmn a0 p0 p1 p2 v3 (1 : Int32))
theorem fX0_take_m {l : Launch} {D : xD} {s0 : State} {b0 : Nat} {Γ : Nat → Option Nat} (G : xG l D s0 b0 Γ) (p0 : Option Nat) (p1 : Int32) (p2 : Int32) (p3 : Int32) (p4 : Option Nat) : xMeth l D s0 Γ yX0_take (Cond.codeWith yX0_take cX0_take 6 (some .int) [(0, 12, 15, 25), (0, 12, 19, 13), (0, 12, 23, 101)]) (11) (266) [va_rf p0, .int p1, .int p2, .int p3, va_rf p4] xeI (fX0_take p0 p1 p2 p3 p4) := by
  refine xMeth.of (lv0 := [(0, va_rf p0), (1, .int p1), (2, .int p2), (3, .int p3), (4, va_rf p4)]) G (by decide +kernel) (Or.inr ⟨_, rfl⟩) (by simp [lg_sl, xrf_cat, xct_i, xct_l, xct_d, xct_r]) (by simp [lv_args, xrf_cat, xct_i, xct_l, xct_d, xct_r, xrf_some]) (fun x F hnL hRm hmn ht e1 e2 e3 e4 => ?_)
  have htb : x.2.2.2.2.2.2.2.2.2.1.exceptionTable.toList = tableOf [(0, 12, 15, 25), (0, 12, 19, 13), (0, 12, 23, 101)] := ht.2 _ rfl
  unfold fX0_take
  refine xr_aload 4 (r := p4) F dX0_take_0 rfl ?_
  refine xr_iconst (0 : Int32) F dX0_take_2 rfl ?_
  refine xr_aload_n 0 (r := p0) F dX0_take_3 rfl ?_
  refine xr_iload_n 1 F dX0_take_4 rfl ?_
  refine xr_iload_n 2 F dX0_take_5 rfl ?_
  refine xr_iload_n 3 F dX0_take_6 rfl ?_
  refine xr_VIT (y := yX1_take) (As := [.int p1, .int p2, .int p3]) (r := p0) F dX0_take_7 (fun z => fX1_take_m (xFG F) z p1 p2 p3) (Or.inl rfl) (ci := 0) (C := RX1) (T := TX1) rfl q3198 q3195 q3196 q3197 (xroom hRm (Nat.le_of_ble_eq_true rfl) (Nat.le_of_ble_eq_true rfl)) ⟨by decide, by decide⟩ n_X1_take rfl (xcat (Nat.le_of_ble_eq_true rfl)) (fun v7 => ?_) (fun q => ?_)
  · refine xr_i2l F dX0_take_10 ?_
    refine xr_last (r := p4) F dX0_take_11 ?_
    refine xr_goto 27 F dX0_take_12 rfl ?_
    refine xr_iconst (0 : Int32) F dX0_take_27 rfl ?_
    exact xr_iret F dX0_take_28
  · refine xT.sel2 ?_ ?_
    · refine xT.catch F htb (tableOf []) ⟨0, 12, 15, 25⟩ (tableOf [(0, 12, 19, 13), (0, 12, 23, 101)]) rfl rfl xps0 rfl (Or.inr ⟨by decide, _, q2481, q739⟩) ?_
      refine xs_a [] F dX0_take_15 hnL rfl rfl xk0 ?_
      refine xr_iconst (1 : Int32) F dX0_take_17 rfl ?_
      exact xr_iret F dX0_take_18
    refine xT.sel2 ?_ ?_
    · refine xT.catch F htb (tableOf [(0, 12, 15, 25)]) ⟨0, 12, 19, 13⟩ (tableOf [(0, 12, 23, 101)]) rfl rfl (xps1 (Or.inr ⟨by decide, _, 1, q2481, rfl⟩) xps0) rfl (Or.inr ⟨by decide, _, q1741, q226⟩) ?_
      refine xs_a [] F dX0_take_19 hnL rfl rfl xk0 ?_
      refine xr_iconst (2 : Int32) F dX0_take_21 rfl ?_
      exact xr_iret F dX0_take_22
    refine xT.catch F htb (tableOf [(0, 12, 15, 25), (0, 12, 19, 13)]) ⟨0, 12, 23, 101⟩ (tableOf []) rfl rfl (xps1 (Or.inr ⟨by decide, _, 3, q2481, rfl⟩) (xps1 (Or.inr ⟨by decide, _, 2, q1741, rfl⟩) xps0)) rfl (Or.inr ⟨by decide, _, q2986, q2996⟩) ?_
    refine xs_a [] F dX0_take_23 hnL rfl rfl xk0 ?_
    refine xr_iconst (3 : Int32) F dX0_take_25 rfl ?_
    exact xr_iret F dX0_take_26
theorem fX1_add_p40_ok {x : xC} (F : xF x RX1 cX1_add (some .int)) (hnL : xnL x = 6) (hRm : ∃ dc ds, x.2.2.2.1 = { frames := 10, cells := dc, slots := ds, locals := 241 }) (hno : ∀ pc, xNo x pc) (hmn : xmn x = "add" ∧ xmy x yX1_add) (l0 : Nat) (l1 : Int32) (l2 : Int32) (l3 : Int32) (s0 : Int32) : xI x xeI 40 [(0, va_rf (some l0)), (1, .int l1), (2, .int l2), (3, .int l3)] [.int s0] (fX1_add_p40 l0 l1 l2 l3 s0) := by
  unfold fX1_add_p40
  refine xr_SV (y := yX1_checkState) (As := [.int s0]) F (hno _) dX1_add_40 (fX1_checkState_m (xFG F) s0) (Or.inl rfl) q2993 q121 (Or.inl q2991) q2992 (xroom hRm (Nat.le_of_ble_eq_true rfl) (Nat.le_of_ble_eq_true rfl)) ⟨by decide, by decide⟩ n_X1_checkState rfl (xcat (Nat.le_of_ble_eq_true rfl)) (fun _ => ?_)
  refine xr_aload_n 0 (r := (some l0)) F dX1_add_43 rfl ?_
  refine xr_iload_n 1 F dX1_add_44 rfl ?_
  refine xr_VR (y := yX1_changed) (As := [.int l1]) (r := (some l0)) F (hno _) dX1_add_45 (fun z => fX1_changed_m (xFG F) z l1) (Or.inl rfl) (ci := 0) (C := RX1) (T := TX1) rfl q3202 q3199 q3201 qs49 (xroom hRm (Nat.le_of_ble_eq_true rfl) (Nat.le_of_ble_eq_true rfl)) ⟨by decide, by decide⟩ n_X1_changed rfl (xcat (Nat.le_of_ble_eq_true rfl)) (fun v45 => ?_)
  refine xs_a [2, 3] F dX1_add_48 hnL rfl rfl (xk1 rfl rfl (xk1 rfl rfl xk0)) ?_
  refine xr_aload 0 (r := v45) F dX1_add_50 rfl ?_
  refine xr_iload_n 1 F dX1_add_52 rfl ?_
  refine xr_iload_n 2 F dX1_add_53 rfl ?_
  refine xr_VV (y := yX6_add) (As := [.int l2, .int l3]) (r := v45) F (hno _) dX1_add_54 (fun z => fX6_add_m (xFG F) z l2 l3) (Or.inl rfl) (ci := 19) (C := RX6) (T := TX6) rfl q3101 q3212 q3099 q3100 (xroom hRm (Nat.le_of_ble_eq_true rfl) (Nat.le_of_ble_eq_true rfl)) ⟨by decide, by decide⟩ n_X6_add rfl (xcat (Nat.le_of_ble_eq_true rfl)) (fun _ => ?_)
  refine xr_aload 0 (r := v45) F dX1_add_57 rfl ?_
  refine xr_gR (r := v45) (ref := "ReserveLedger$Herd") F dX1_add_59 (C := RX6) (T := TX6) (N := 8) rfl (by decide) (Or.inr ⟨_, q2043⟩) (Or.inl rfl) (fun v59 => ?_)
  refine xr_VI (y := yX10_total) (As := []) (r := v59) F (hno _) dX1_add_62 (fun z => fX10_total_m (xFG F) z) (Or.inl rfl) (ci := 24) (C := RX10) (T := TX10) rfl q1642 q2515 q1640 q1641 (xroom hRm (Nat.le_of_ble_eq_true rfl) (Nat.le_of_ble_eq_true rfl)) ⟨by decide, by decide⟩ n_X10_total rfl (xcat (Nat.le_of_ble_eq_true rfl)) (fun v62 => ?_)
  exact xr_iret F dX1_add_65
theorem fX1_add_p18_ok {x : xC} (F : xF x RX1 cX1_add (some .int)) (hnL : xnL x = 6) (hRm : ∃ dc ds, x.2.2.2.1 = { frames := 10, cells := dc, slots := ds, locals := 241 }) (hno : ∀ pc, xNo x pc) (hmn : xmn x = "add" ∧ xmy x yX1_add) (l0 : Nat) (l1 : Int32) (l2 : Int32) (l3 : Int32) (l4 : Option Nat) (s0 : Int32) : xI x xeI 18 [(0, va_rf (some l0)), (1, .int l1), (2, .int l2), (3, .int l3), (4, va_rf l4)] [.int s0] (fX1_add_p18 l0 l1 l2 l3 l4 s0) := by
  unfold fX1_add_p18
  refine xr_SV (y := yX1_checkArgument) (As := [.int s0]) F (hno _) dX1_add_18 (fX1_checkArgument_m (xFG F) s0) (Or.inl rfl) q2912 q121 (Or.inl q2910) q2911 (xroom hRm (Nat.le_of_ble_eq_true rfl) (Nat.le_of_ble_eq_true rfl)) ⟨by decide, by decide⟩ n_X1_checkArgument rfl (xcat (Nat.le_of_ble_eq_true rfl)) (fun _ => ?_)
  refine xr_iload_n 3 F dX1_add_21 rfl ?_
  refine xr_ldcw F dX1_add_22 q3211 ?_
  refine xr_aload 4 (r := l4) F dX1_add_25 rfl ?_
  refine xr_iload_n 2 F dX1_add_27 rfl ?_
  refine xr_VI (y := yX6_cohort) (As := [.int l2]) (r := l4) F (hno _) dX1_add_28 (fun z => fX6_cohort_m (xFG F) z l2) (Or.inl rfl) (ci := 19) (C := RX6) (T := TX6) rfl q2323 q2548 q2321 q2322 (xroom hRm (Nat.le_of_ble_eq_true rfl) (Nat.le_of_ble_eq_true rfl)) ⟨by decide, by decide⟩ n_X6_cohort rfl (xcat (Nat.le_of_ble_eq_true rfl)) (fun v28 => ?_)
  refine xr_isub F dX1_add_31 ?_
  refine xr_icmp_gt 39 F dX1_add_32 rfl ?_ ?_
  · refine xr_iconst (0 : Int32) F dX1_add_39 rfl ?_
    exact xI.sub [0, 1, 2, 3] rfl (fX1_add_p40_ok F hnL hRm hno hmn l0 l1 l2 l3 (0 : Int32))
  · refine xr_iconst (1 : Int32) F dX1_add_35 rfl ?_
    refine xr_goto 40 F dX1_add_36 rfl ?_
    exact xI.sub [0, 1, 2, 3] rfl (fX1_add_p40_ok F hnL hRm hno hmn l0 l1 l2 l3 (1 : Int32))
theorem fX1_add_m {l : Launch} {D : xD} {s0 : State} {b0 : Nat} {Γ : Nat → Option Nat} (G : xG l D s0 b0 Γ) (a0 : Nat) (p0 : Int32) (p1 : Int32) (p2 : Int32) : xMeth l D s0 Γ yX1_add (Cond.code yX1_add cX1_add 6 (some .int)) (10) (241) [.ref a0, .int p0, .int p1, .int p2] xeI (fX1_add a0 p0 p1 p2) := by
  refine xMeth.of (lv0 := [(0, va_rf (some a0)), (1, .int p0), (2, .int p1), (3, .int p2)]) G (by decide +kernel) (Or.inl rfl) (Nat.le_of_ble_eq_true rfl) rfl (fun x F hnL hRm hmn ht e1 e2 e3 e4 => ?_)
  have hno : ∀ pc, xNo x pc := fun pc z hz => by rw [ht.1 rfl] at hz; cases hz
  unfold fX1_add
  refine xr_aload_n 0 (r := (some a0)) F dX1_add_0 rfl ?_
  refine xr_iload_n 1 F dX1_add_1 rfl ?_
  refine xr_iload_n 2 F dX1_add_2 rfl ?_
  refine xr_VR (y := yX1_herdWith) (As := [.int p0, .int p1]) (r := (some a0)) F (hno _) dX1_add_3 (fun z => fX1_herdWith_m (xFG F) z p0 p1) (Or.inl rfl) (ci := 0) (C := RX1) (T := TX1) rfl q2533 q2530 q2532 qs35 (xroom hRm (Nat.le_of_ble_eq_true rfl) (Nat.le_of_ble_eq_true rfl)) ⟨by decide, by decide⟩ n_X1_herdWith rfl (xcat (Nat.le_of_ble_eq_true rfl)) (fun v3 => ?_)
  refine xs_a [0, 1, 2, 3] F dX1_add_6 hnL rfl rfl (xk1 rfl rfl (xk1 rfl rfl (xk1 rfl rfl (xk2 rfl rfl xk0)))) ?_
  refine xr_iload_n 4 F dX1_add_8 rfl ?_
  refine xr_iconst (1 : Int32) F dX1_add_9 rfl ?_
  refine xr_icmp_lt 17 F dX1_add_10 rfl ?_ ?_
  · refine xr_iconst (0 : Int32) F dX1_add_17 rfl ?_
    exact xI.sub [1, 2, 3, 4, 0] rfl (fX1_add_p18_ok F hnL hRm hno hmn a0 p0 p1 p2 v3 (0 : Int32))
  · refine xr_iconst (1 : Int32) F dX1_add_13 rfl ?_
    refine xr_goto 18 F dX1_add_14 rfl ?_
    exact xI.sub [1, 2, 3, 4, 0] rfl (fX1_add_p18_ok F hnL hRm hno hmn a0 p0 p1 p2 v3 (1 : Int32))
theorem fX0_add_m {l : Launch} {D : xD} {s0 : State} {b0 : Nat} {Γ : Nat → Option Nat} (G : xG l D s0 b0 Γ) (p0 : Option Nat) (p1 : Int32) (p2 : Int32) (p3 : Int32) (p4 : Option Nat) : xMeth l D s0 Γ yX0_add (Cond.codeWith yX0_add cX0_add 6 (some .int) [(0, 12, 15, 25), (0, 12, 19, 13), (0, 12, 23, 101)]) (11) (266) [va_rf p0, .int p1, .int p2, .int p3, va_rf p4] xeI (fX0_add p0 p1 p2 p3 p4) := by
  refine xMeth.of (lv0 := [(0, va_rf p0), (1, .int p1), (2, .int p2), (3, .int p3), (4, va_rf p4)]) G (by decide +kernel) (Or.inr ⟨_, rfl⟩) (by simp [lg_sl, xrf_cat, xct_i, xct_l, xct_d, xct_r]) (by simp [lv_args, xrf_cat, xct_i, xct_l, xct_d, xct_r, xrf_some]) (fun x F hnL hRm hmn ht e1 e2 e3 e4 => ?_)
  have htb : x.2.2.2.2.2.2.2.2.2.1.exceptionTable.toList = tableOf [(0, 12, 15, 25), (0, 12, 19, 13), (0, 12, 23, 101)] := ht.2 _ rfl
  unfold fX0_add
  refine xr_aload 4 (r := p4) F dX0_add_0 rfl ?_
  refine xr_iconst (0 : Int32) F dX0_add_2 rfl ?_
  refine xr_aload_n 0 (r := p0) F dX0_add_3 rfl ?_
  refine xr_iload_n 1 F dX0_add_4 rfl ?_
  refine xr_iload_n 2 F dX0_add_5 rfl ?_
  refine xr_iload_n 3 F dX0_add_6 rfl ?_
  refine xr_VIT (y := yX1_add) (As := [.int p1, .int p2, .int p3]) (r := p0) F dX0_add_7 (fun z => fX1_add_m (xFG F) z p1 p2 p3) (Or.inl rfl) (ci := 0) (C := RX1) (T := TX1) rfl q3210 q3207 q3208 q3209 (xroom hRm (Nat.le_of_ble_eq_true rfl) (Nat.le_of_ble_eq_true rfl)) ⟨by decide, by decide⟩ n_X1_add rfl (xcat (Nat.le_of_ble_eq_true rfl)) (fun v7 => ?_) (fun q => ?_)
  · refine xr_i2l F dX0_add_10 ?_
    refine xr_last (r := p4) F dX0_add_11 ?_
    refine xr_goto 27 F dX0_add_12 rfl ?_
    refine xr_iconst (0 : Int32) F dX0_add_27 rfl ?_
    exact xr_iret F dX0_add_28
  · refine xT.sel2 ?_ ?_
    · refine xT.catch F htb (tableOf []) ⟨0, 12, 15, 25⟩ (tableOf [(0, 12, 19, 13), (0, 12, 23, 101)]) rfl rfl xps0 rfl (Or.inr ⟨by decide, _, q2481, q739⟩) ?_
      refine xs_a [] F dX0_add_15 hnL rfl rfl xk0 ?_
      refine xr_iconst (1 : Int32) F dX0_add_17 rfl ?_
      exact xr_iret F dX0_add_18
    refine xT.sel2 ?_ ?_
    · refine xT.catch F htb (tableOf [(0, 12, 15, 25)]) ⟨0, 12, 19, 13⟩ (tableOf [(0, 12, 23, 101)]) rfl rfl (xps1 (Or.inr ⟨by decide, _, 1, q2481, rfl⟩) xps0) rfl (Or.inr ⟨by decide, _, q1741, q226⟩) ?_
      refine xs_a [] F dX0_add_19 hnL rfl rfl xk0 ?_
      refine xr_iconst (2 : Int32) F dX0_add_21 rfl ?_
      exact xr_iret F dX0_add_22
    refine xT.catch F htb (tableOf [(0, 12, 15, 25), (0, 12, 19, 13)]) ⟨0, 12, 23, 101⟩ (tableOf []) rfl rfl (xps1 (Or.inr ⟨by decide, _, 3, q2481, rfl⟩) (xps1 (Or.inr ⟨by decide, _, 2, q1741, rfl⟩) xps0)) rfl (Or.inr ⟨by decide, _, q2986, q2996⟩) ?_
    refine xs_a [] F dX0_add_23 hnL rfl rfl xk0 ?_
    refine xr_iconst (3 : Int32) F dX0_add_25 rfl ?_
    exact xr_iret F dX0_add_26
theorem fX1_sick_p41_ok {x : xC} (F : xF x RX1 cX1_sick (some .int)) (hnL : xnL x = 6) (hRm : ∃ dc ds, x.2.2.2.1 = { frames := 10, cells := dc, slots := ds, locals := 241 }) (hno : ∀ pc, xNo x pc) (hmn : xmn x = "sick" ∧ xmy x yX1_sick) (l0 : Nat) (l1 : Int32) (l2 : Int32) (l3 : Int32) (l4 : Int32) (s0 : Int32) : xI x xeI 41 [(0, va_rf (some l0)), (1, .int l1), (2, .int l2), (3, .int l3), (4, .int l4)] [.int s0] (fX1_sick_p41 l0 l1 l2 l3 l4 s0) := by
  unfold fX1_sick_p41
  refine xr_SV (y := yX1_checkArgument) (As := [.int s0]) F (hno _) dX1_sick_41 (fX1_checkArgument_m (xFG F) s0) (Or.inl rfl) q2912 q121 (Or.inl q2910) q2911 (xroom hRm (Nat.le_of_ble_eq_true rfl) (Nat.le_of_ble_eq_true rfl)) ⟨by decide, by decide⟩ n_X1_checkArgument rfl (xcat (Nat.le_of_ble_eq_true rfl)) (fun _ => ?_)
  refine xr_aload_n 0 (r := (some l0)) F dX1_sick_44 rfl ?_
  refine xr_iload_n 1 F dX1_sick_45 rfl ?_
  refine xr_VR (y := yX1_changed) (As := [.int l1]) (r := (some l0)) F (hno _) dX1_sick_46 (fun z => fX1_changed_m (xFG F) z l1) (Or.inl rfl) (ci := 0) (C := RX1) (T := TX1) rfl q3202 q3199 q3201 qs49 (xroom hRm (Nat.le_of_ble_eq_true rfl) (Nat.le_of_ble_eq_true rfl)) ⟨by decide, by decide⟩ n_X1_changed rfl (xcat (Nat.le_of_ble_eq_true rfl)) (fun v46 => ?_)
  refine xr_iload_n 2 F dX1_sick_49 rfl ?_
  refine xr_iload_n 3 F dX1_sick_50 rfl ?_
  refine xr_iload 4 F dX1_sick_51 rfl ?_
  refine xr_VI (y := yX6_sick) (As := [.int l2, .int l3, .int l4]) (r := v46) F (hno _) dX1_sick_53 (fun z => fX6_sick_m (xFG F) z l2 l3 l4) (Or.inl rfl) (ci := 19) (C := RX6) (T := TX6) rfl q3122 q3220 q3120 q3121 (xroom hRm (Nat.le_of_ble_eq_true rfl) (Nat.le_of_ble_eq_true rfl)) ⟨by decide, by decide⟩ n_X6_sick rfl (xcat (Nat.le_of_ble_eq_true rfl)) (fun v53 => ?_)
  exact xr_iret F dX1_sick_56
theorem fX1_sick_p40_ok {x : xC} (F : xF x RX1 cX1_sick (some .int)) (hnL : xnL x = 6) (hRm : ∃ dc ds, x.2.2.2.1 = { frames := 10, cells := dc, slots := ds, locals := 241 }) (hno : ∀ pc, xNo x pc) (hmn : xmn x = "sick" ∧ xmy x yX1_sick) (l0 : Nat) (l1 : Int32) (l2 : Int32) (l3 : Int32) (l4 : Int32) : xI x xeI 40 [(0, va_rf (some l0)), (1, .int l1), (2, .int l2), (3, .int l3), (4, .int l4)] [] (fX1_sick_p40 l0 l1 l2 l3 l4) := by
  unfold fX1_sick_p40
  refine xr_iconst (0 : Int32) F dX1_sick_40 rfl ?_
  exact xI.sub [0, 1, 2, 3, 4] rfl (fX1_sick_p41_ok F hnL hRm hno hmn l0 l1 l2 l3 l4 (0 : Int32))
theorem fX1_sick_m {l : Launch} {D : xD} {s0 : State} {b0 : Nat} {Γ : Nat → Option Nat} (G : xG l D s0 b0 Γ) (a0 : Nat) (p0 : Int32) (p1 : Int32) (p2 : Int32) (p3 : Int32) : xMeth l D s0 Γ yX1_sick (Cond.code yX1_sick cX1_sick 6 (some .int)) (10) (241) [.ref a0, .int p0, .int p1, .int p2, .int p3] xeI (fX1_sick a0 p0 p1 p2 p3) := by
  refine xMeth.of (lv0 := [(0, va_rf (some a0)), (1, .int p0), (2, .int p1), (3, .int p2), (4, .int p3)]) G (by decide +kernel) (Or.inl rfl) (Nat.le_of_ble_eq_true rfl) rfl (fun x F hnL hRm hmn ht e1 e2 e3 e4 => ?_)
  have hno : ∀ pc, xNo x pc := fun pc z hz => by rw [ht.1 rfl] at hz; cases hz
  unfold fX1_sick
  refine xr_aload_n 0 (r := (some a0)) F dX1_sick_0 rfl ?_
  refine xr_iload_n 1 F dX1_sick_1 rfl ?_
  refine xr_iload_n 2 F dX1_sick_2 rfl ?_
  refine xr_VR (y := yX1_herdWith) (As := [.int p0, .int p1]) (r := (some a0)) F (hno _) dX1_sick_3 (fun z => fX1_herdWith_m (xFG F) z p0 p1) (Or.inl rfl) (ci := 0) (C := RX1) (T := TX1) rfl q2533 q2530 q2532 qs35 (xroom hRm (Nat.le_of_ble_eq_true rfl) (Nat.le_of_ble_eq_true rfl)) ⟨by decide, by decide⟩ n_X1_herdWith rfl (xcat (Nat.le_of_ble_eq_true rfl)) (fun v3 => ?_)
  refine xs_a [0, 1, 2, 3, 4] F dX1_sick_6 hnL rfl rfl (xk1 rfl rfl (xk1 rfl rfl (xk1 rfl rfl (xk1 rfl rfl (xk2 rfl rfl xk0))))) ?_
  refine xr_iload_n 4 F dX1_sick_8 rfl ?_
  refine xr_iload_n 3 F dX1_sick_9 rfl ?_
  refine xr_aload 0 (r := v3) F dX1_sick_10 rfl ?_
  refine xr_gR (r := v3) (ref := "ReserveLedger$Herd") F dX1_sick_12 (C := RX6) (T := TX6) (N := 8) rfl (by decide) (Or.inr ⟨_, q2037⟩) (Or.inl rfl) (fun v12 => ?_)
  refine xr_gI (r := v12) (ref := "ReserveLedger$Species") F dX1_sick_15 (C := RX7) (T := TX7) (N := 6) rfl (by decide) (Or.inr ⟨_, q1920⟩) (Or.inl rfl) (fun v15 => ?_)
  refine xr_SI (y := yX1_inRange) (As := [.int p2, .int p1, .int v15]) F (hno _) dX1_sick_18 (fX1_inRange_m (xFG F) p2 p1 v15) (Or.inl rfl) q646 q121 (Or.inl q644) q645 (xroom hRm (Nat.le_of_ble_eq_true rfl) (Nat.le_of_ble_eq_true rfl)) ⟨by decide, by decide⟩ n_X1_inRange rfl (xcat (Nat.le_of_ble_eq_true rfl)) (fun v18 => ?_)
  refine xr_if_eq 40 F dX1_sick_21 rfl ?_ ?_
  · exact xI.sub [1, 2, 3, 4, 5] rfl (fX1_sick_p40_ok F hnL hRm hno hmn a0 p0 p1 p2 p3)
  · refine xr_iload 5 F dX1_sick_24 rfl ?_
    refine xr_iconst (0 : Int32) F dX1_sick_26 rfl ?_
    refine xr_sipush (1000 : Int32) F dX1_sick_27 rfl ?_
    refine xr_SI (y := yX1_inRange) (As := [.int p3, .int (0 : Int32), .int (1000 : Int32)]) F (hno _) dX1_sick_30 (fX1_inRange_m (xFG F) p3 (0 : Int32) (1000 : Int32)) (Or.inl rfl) q646 q121 (Or.inl q644) q645 (xroom hRm (Nat.le_of_ble_eq_true rfl) (Nat.le_of_ble_eq_true rfl)) ⟨by decide, by decide⟩ n_X1_inRange rfl (xcat (Nat.le_of_ble_eq_true rfl)) (fun v30 => ?_)
    refine xr_if_eq 40 F dX1_sick_33 rfl ?_ ?_
    · exact xI.sub [1, 2, 3, 4, 5] rfl (fX1_sick_p40_ok F hnL hRm hno hmn a0 p0 p1 p2 p3)
    · refine xr_iconst (1 : Int32) F dX1_sick_36 rfl ?_
      refine xr_goto 41 F dX1_sick_37 rfl ?_
      exact xI.sub [1, 2, 3, 4, 5] rfl (fX1_sick_p41_ok F hnL hRm hno hmn a0 p0 p1 p2 p3 (1 : Int32))
theorem fX0_sick_m {l : Launch} {D : xD} {s0 : State} {b0 : Nat} {Γ : Nat → Option Nat} (G : xG l D s0 b0 Γ) (p0 : Option Nat) (p1 : Int32) (p2 : Int32) (p3 : Int32) (p4 : Int32) (p5 : Option Nat) : xMeth l D s0 Γ yX0_sick (Cond.codeWith yX0_sick cX0_sick 7 (some .int) [(0, 14, 17, 25), (0, 14, 21, 13)]) (11) (266) [va_rf p0, .int p1, .int p2, .int p3, .int p4, va_rf p5] xeI (fX0_sick p0 p1 p2 p3 p4 p5) := by
  refine xMeth.of (lv0 := [(0, va_rf p0), (1, .int p1), (2, .int p2), (3, .int p3), (4, .int p4), (5, va_rf p5)]) G (by decide +kernel) (Or.inr ⟨_, rfl⟩) (by simp [lg_sl, xrf_cat, xct_i, xct_l, xct_d, xct_r]) (by simp [lv_args, xrf_cat, xct_i, xct_l, xct_d, xct_r, xrf_some]) (fun x F hnL hRm hmn ht e1 e2 e3 e4 => ?_)
  have htb : x.2.2.2.2.2.2.2.2.2.1.exceptionTable.toList = tableOf [(0, 14, 17, 25), (0, 14, 21, 13)] := ht.2 _ rfl
  unfold fX0_sick
  refine xr_aload 5 (r := p5) F dX0_sick_0 rfl ?_
  refine xr_iconst (0 : Int32) F dX0_sick_2 rfl ?_
  refine xr_aload_n 0 (r := p0) F dX0_sick_3 rfl ?_
  refine xr_iload_n 1 F dX0_sick_4 rfl ?_
  refine xr_iload_n 2 F dX0_sick_5 rfl ?_
  refine xr_iload_n 3 F dX0_sick_6 rfl ?_
  refine xr_iload 4 F dX0_sick_7 rfl ?_
  refine xr_VIT (y := yX1_sick) (As := [.int p1, .int p2, .int p3, .int p4]) (r := p0) F dX0_sick_9 (fun z => fX1_sick_m (xFG F) z p1 p2 p3 p4) (Or.inl rfl) (ci := 0) (C := RX1) (T := TX1) rfl q3219 q3216 q3217 q3218 (xroom hRm (Nat.le_of_ble_eq_true rfl) (Nat.le_of_ble_eq_true rfl)) ⟨by decide, by decide⟩ n_X1_sick rfl (xcat (Nat.le_of_ble_eq_true rfl)) (fun v9 => ?_) (fun q => ?_)
  · refine xr_i2l F dX0_sick_12 ?_
    refine xr_last (r := p5) F dX0_sick_13 ?_
    refine xr_goto 25 F dX0_sick_14 rfl ?_
    refine xr_iconst (0 : Int32) F dX0_sick_25 rfl ?_
    exact xr_iret F dX0_sick_26
  · refine xT.sel2 ?_ ?_
    · refine xT.catch F htb (tableOf []) ⟨0, 14, 17, 25⟩ (tableOf [(0, 14, 21, 13)]) rfl rfl xps0 rfl (Or.inr ⟨by decide, _, q2481, q739⟩) ?_
      refine xs_a [] F dX0_sick_17 hnL rfl rfl xk0 ?_
      refine xr_iconst (1 : Int32) F dX0_sick_19 rfl ?_
      exact xr_iret F dX0_sick_20
    refine xT.catch F htb (tableOf [(0, 14, 17, 25)]) ⟨0, 14, 21, 13⟩ (tableOf []) rfl rfl (xps1 (Or.inr ⟨by decide, _, 1, q2481, rfl⟩) xps0) rfl (Or.inr ⟨by decide, _, q1741, q226⟩) ?_
    refine xs_a [] F dX0_sick_21 hnL rfl rfl xk0 ?_
    refine xr_iconst (2 : Int32) F dX0_sick_23 rfl ?_
    exact xr_iret F dX0_sick_24
theorem fX1_mark_p40_ok {x : xC} (F : xF x RX1 cX1_mark (some .int)) (hnL : xnL x = 5) (hRm : ∃ dc ds, x.2.2.2.1 = { frames := 10, cells := dc, slots := ds, locals := 241 }) (hno : ∀ pc, xNo x pc) (hmn : xmn x = "mark" ∧ xmy x yX1_mark) (l0 : Nat) (l1 : Int32) (l2 : Int32) (s0 : Int32) : xI x xeI 40 [(0, va_rf (some l0)), (1, .int l1), (2, .int l2)] [.int s0] (fX1_mark_p40 l0 l1 l2 s0) := by
  unfold fX1_mark_p40
  refine xr_SV (y := yX1_checkState) (As := [.int s0]) F (hno _) dX1_mark_40 (fX1_checkState_m (xFG F) s0) (Or.inl rfl) q2993 q121 (Or.inl q2991) q2992 (xroom hRm (Nat.le_of_ble_eq_true rfl) (Nat.le_of_ble_eq_true rfl)) ⟨by decide, by decide⟩ n_X1_checkState rfl (xcat (Nat.le_of_ble_eq_true rfl)) (fun _ => ?_)
  refine xr_aload_n 0 (r := (some l0)) F dX1_mark_43 rfl ?_
  refine xr_iload_n 1 F dX1_mark_44 rfl ?_
  refine xr_VR (y := yX1_changed) (As := [.int l1]) (r := (some l0)) F (hno _) dX1_mark_45 (fun z => fX1_changed_m (xFG F) z l1) (Or.inl rfl) (ci := 0) (C := RX1) (T := TX1) rfl q3202 q3199 q3201 qs49 (xroom hRm (Nat.le_of_ble_eq_true rfl) (Nat.le_of_ble_eq_true rfl)) ⟨by decide, by decide⟩ n_X1_changed rfl (xcat (Nat.le_of_ble_eq_true rfl)) (fun v45 => ?_)
  refine xs_a [2] F dX1_mark_48 hnL rfl rfl (xk1 rfl rfl xk0) ?_
  refine xr_aload 0 (r := v45) F dX1_mark_50 rfl ?_
  refine xr_dup F dX1_mark_52 (xrf_cat _) ?_
  refine xr_gI (r := v45) (ref := "ReserveLedger$Herd") F dX1_mark_53 (C := RX6) (T := TX6) (N := 8) rfl (by decide) (Or.inr ⟨_, q2049⟩) (Or.inl rfl) (fun v53 => ?_)
  refine xr_iload_n 1 F dX1_mark_56 rfl ?_
  refine xr_iadd F dX1_mark_57 ?_
  refine xr_put (r := v45) (ref := "ReserveLedger$Herd") F dX1_mark_58 xk_19 (by decide) (Or.inr ⟨_, q2049⟩) (Or.inl rfl) (Or.inl rfl) ⟨rfl, rfl⟩ ?_
  refine xr_aload 0 (r := v45) F dX1_mark_61 rfl ?_
  refine xr_gI (r := v45) (ref := "ReserveLedger$Herd") F dX1_mark_63 (C := RX6) (T := TX6) (N := 8) rfl (by decide) (Or.inr ⟨_, q2049⟩) (Or.inl rfl) (fun v63 => ?_)
  exact xr_iret F dX1_mark_66
theorem fX1_mark_p16_ok {x : xC} (F : xF x RX1 cX1_mark (some .int)) (hnL : xnL x = 5) (hRm : ∃ dc ds, x.2.2.2.1 = { frames := 10, cells := dc, slots := ds, locals := 241 }) (hno : ∀ pc, xNo x pc) (hmn : xmn x = "mark" ∧ xmy x yX1_mark) (l0 : Nat) (l1 : Int32) (l2 : Int32) (l3 : Option Nat) (s0 : Int32) : xI x xeI 16 [(0, va_rf (some l0)), (1, .int l1), (2, .int l2), (3, va_rf l3)] [.int s0] (fX1_mark_p16 l0 l1 l2 l3 s0) := by
  unfold fX1_mark_p16
  refine xr_SV (y := yX1_checkArgument) (As := [.int s0]) F (hno _) dX1_mark_16 (fX1_checkArgument_m (xFG F) s0) (Or.inl rfl) q2912 q121 (Or.inl q2910) q2911 (xroom hRm (Nat.le_of_ble_eq_true rfl) (Nat.le_of_ble_eq_true rfl)) ⟨by decide, by decide⟩ n_X1_checkArgument rfl (xcat (Nat.le_of_ble_eq_true rfl)) (fun _ => ?_)
  refine xr_iload_n 2 F dX1_mark_19 rfl ?_
  refine xr_aload_n 3 (r := l3) F dX1_mark_20 rfl ?_
  refine xr_gR (r := l3) (ref := "ReserveLedger$Herd") F dX1_mark_21 (C := RX6) (T := TX6) (N := 8) rfl (by decide) (Or.inr ⟨_, q2043⟩) (Or.inl rfl) (fun v21 => ?_)
  refine xr_VI (y := yX10_total) (As := []) (r := v21) F (hno _) dX1_mark_24 (fun z => fX10_total_m (xFG F) z) (Or.inl rfl) (ci := 24) (C := RX10) (T := TX10) rfl q1642 q2515 q1640 q1641 (xroom hRm (Nat.le_of_ble_eq_true rfl) (Nat.le_of_ble_eq_true rfl)) ⟨by decide, by decide⟩ n_X10_total rfl (xcat (Nat.le_of_ble_eq_true rfl)) (fun v24 => ?_)
  refine xr_aload_n 3 (r := l3) F dX1_mark_27 rfl ?_
  refine xr_gI (r := l3) (ref := "ReserveLedger$Herd") F dX1_mark_28 (C := RX6) (T := TX6) (N := 8) rfl (by decide) (Or.inr ⟨_, q2049⟩) (Or.inl rfl) (fun v28 => ?_)
  refine xr_isub F dX1_mark_31 ?_
  refine xr_icmp_gt 39 F dX1_mark_32 rfl ?_ ?_
  · refine xr_iconst (0 : Int32) F dX1_mark_39 rfl ?_
    exact xI.sub [0, 1, 2] rfl (fX1_mark_p40_ok F hnL hRm hno hmn l0 l1 l2 (0 : Int32))
  · refine xr_iconst (1 : Int32) F dX1_mark_35 rfl ?_
    refine xr_goto 40 F dX1_mark_36 rfl ?_
    exact xI.sub [0, 1, 2] rfl (fX1_mark_p40_ok F hnL hRm hno hmn l0 l1 l2 (1 : Int32))
theorem fX1_mark_m {l : Launch} {D : xD} {s0 : State} {b0 : Nat} {Γ : Nat → Option Nat} (G : xG l D s0 b0 Γ) (a0 : Nat) (p0 : Int32) (p1 : Int32) : xMeth l D s0 Γ yX1_mark (Cond.code yX1_mark cX1_mark 5 (some .int)) (10) (241) [.ref a0, .int p0, .int p1] xeI (fX1_mark a0 p0 p1) := by
  refine xMeth.of (lv0 := [(0, va_rf (some a0)), (1, .int p0), (2, .int p1)]) G (by decide +kernel) (Or.inl rfl) (Nat.le_of_ble_eq_true rfl) rfl (fun x F hnL hRm hmn ht e1 e2 e3 e4 => ?_)
  have hno : ∀ pc, xNo x pc := fun pc z hz => by rw [ht.1 rfl] at hz; cases hz
  unfold fX1_mark
  refine xr_aload_n 0 (r := (some a0)) F dX1_mark_0 rfl ?_
  refine xr_iload_n 1 F dX1_mark_1 rfl ?_
  refine xr_VR (y := yX1_herd) (As := [.int p0]) (r := (some a0)) F (hno _) dX1_mark_2 (fun z => fX1_herd_m (xFG F) z p0) (Or.inl rfl) (ci := 0) (C := RX1) (T := TX1) rfl q2504 q2501 q2503 qs34 (xroom hRm (Nat.le_of_ble_eq_true rfl) (Nat.le_of_ble_eq_true rfl)) ⟨by decide, by decide⟩ n_X1_herd rfl (xcat (Nat.le_of_ble_eq_true rfl)) (fun v2 => ?_)
  refine xs_a_n [0, 1, 2] F dX1_mark_5 hnL rfl rfl (xk1 rfl rfl (xk1 rfl rfl (xk2 rfl rfl xk0))) ?_
  refine xr_iload_n 3 F dX1_mark_6 rfl ?_
  refine xr_iconst (1 : Int32) F dX1_mark_7 rfl ?_
  refine xr_icmp_lt 15 F dX1_mark_8 rfl ?_ ?_
  · refine xr_iconst (0 : Int32) F dX1_mark_15 rfl ?_
    exact xI.sub [1, 2, 3, 0] rfl (fX1_mark_p16_ok F hnL hRm hno hmn a0 p0 p1 v2 (0 : Int32))
  · refine xr_iconst (1 : Int32) F dX1_mark_11 rfl ?_
    refine xr_goto 16 F dX1_mark_12 rfl ?_
    exact xI.sub [1, 2, 3, 0] rfl (fX1_mark_p16_ok F hnL hRm hno hmn a0 p0 p1 v2 (1 : Int32))
theorem fX0_mark_m {l : Launch} {D : xD} {s0 : State} {b0 : Nat} {Γ : Nat → Option Nat} (G : xG l D s0 b0 Γ) (p0 : Option Nat) (p1 : Int32) (p2 : Int32) (p3 : Option Nat) : xMeth l D s0 Γ yX0_mark (Cond.codeWith yX0_mark cX0_mark 5 (some .int) [(0, 10, 13, 25), (0, 10, 17, 13), (0, 10, 21, 101)]) (11) (265) [va_rf p0, .int p1, .int p2, va_rf p3] xeI (fX0_mark p0 p1 p2 p3) := by
  refine xMeth.of (lv0 := [(0, va_rf p0), (1, .int p1), (2, .int p2), (3, va_rf p3)]) G (by decide +kernel) (Or.inr ⟨_, rfl⟩) (by simp [lg_sl, xrf_cat, xct_i, xct_l, xct_d, xct_r]) (by simp [lv_args, xrf_cat, xct_i, xct_l, xct_d, xct_r, xrf_some]) (fun x F hnL hRm hmn ht e1 e2 e3 e4 => ?_)
  have htb : x.2.2.2.2.2.2.2.2.2.1.exceptionTable.toList = tableOf [(0, 10, 13, 25), (0, 10, 17, 13), (0, 10, 21, 101)] := ht.2 _ rfl
  unfold fX0_mark
  refine xr_aload_n 3 (r := p3) F dX0_mark_0 rfl ?_
  refine xr_iconst (0 : Int32) F dX0_mark_1 rfl ?_
  refine xr_aload_n 0 (r := p0) F dX0_mark_2 rfl ?_
  refine xr_iload_n 1 F dX0_mark_3 rfl ?_
  refine xr_iload_n 2 F dX0_mark_4 rfl ?_
  refine xr_VIT (y := yX1_mark) (As := [.int p1, .int p2]) (r := p0) F dX0_mark_5 (fun z => fX1_mark_m (xFG F) z p1 p2) (Or.inl rfl) (ci := 0) (C := RX1) (T := TX1) rfl q3227 q3224 q3225 q3226 (xroom hRm (Nat.le_of_ble_eq_true rfl) (Nat.le_of_ble_eq_true rfl)) ⟨by decide, by decide⟩ n_X1_mark rfl (xcat (Nat.le_of_ble_eq_true rfl)) (fun v5 => ?_) (fun q => ?_)
  · refine xr_i2l F dX0_mark_8 ?_
    refine xr_last (r := p3) F dX0_mark_9 ?_
    refine xr_goto 25 F dX0_mark_10 rfl ?_
    refine xr_iconst (0 : Int32) F dX0_mark_25 rfl ?_
    exact xr_iret F dX0_mark_26
  · refine xT.sel2 ?_ ?_
    · refine xT.catch F htb (tableOf []) ⟨0, 10, 13, 25⟩ (tableOf [(0, 10, 17, 13), (0, 10, 21, 101)]) rfl rfl xps0 rfl (Or.inr ⟨by decide, _, q2481, q739⟩) ?_
      refine xs_a [] F dX0_mark_13 hnL rfl rfl xk0 ?_
      refine xr_iconst (1 : Int32) F dX0_mark_15 rfl ?_
      exact xr_iret F dX0_mark_16
    refine xT.sel2 ?_ ?_
    · refine xT.catch F htb (tableOf [(0, 10, 13, 25)]) ⟨0, 10, 17, 13⟩ (tableOf [(0, 10, 21, 101)]) rfl rfl (xps1 (Or.inr ⟨by decide, _, 1, q2481, rfl⟩) xps0) rfl (Or.inr ⟨by decide, _, q1741, q226⟩) ?_
      refine xs_a [] F dX0_mark_17 hnL rfl rfl xk0 ?_
      refine xr_iconst (2 : Int32) F dX0_mark_19 rfl ?_
      exact xr_iret F dX0_mark_20
    refine xT.catch F htb (tableOf [(0, 10, 13, 25), (0, 10, 17, 13)]) ⟨0, 10, 21, 101⟩ (tableOf []) rfl rfl (xps1 (Or.inr ⟨by decide, _, 3, q2481, rfl⟩) (xps1 (Or.inr ⟨by decide, _, 2, q1741, rfl⟩) xps0)) rfl (Or.inr ⟨by decide, _, q2986, q2996⟩) ?_
    refine xs_a [] F dX0_mark_21 hnL rfl rfl xk0 ?_
    refine xr_iconst (3 : Int32) F dX0_mark_23 rfl ?_
    exact xr_iret F dX0_mark_24
theorem fX17_init_m {l : Launch} {D : xD} {s0 : State} {b0 : Nat} {Γ : Nat → Option Nat} (G : xG l D s0 b0 Γ) (a0 : Nat) (p0 : Int32) (p1 : Int32) (p2 : Int32) (p3 : Int32) : xMeth l D s0 Γ yX17_init (Cond.code yX17_init cX17_init 5 none) (1) (20) [.ref a0, .int p0, .int p1, .int p2, .int p3] xeV (fX17_init a0 p0 p1 p2 p3) := by
  refine xMeth.of (lv0 := [(0, va_rf (some a0)), (1, .int p0), (2, .int p1), (3, .int p2), (4, .int p3)]) G (by decide +kernel) (Or.inl rfl) (Nat.le_of_ble_eq_true rfl) rfl (fun x F hnL hRm hmn ht e1 e2 e3 e4 => ?_)
  have hno : ∀ pc, xNo x pc := fun pc z hz => by rw [ht.1 rfl] at hz; cases hz
  unfold fX17_init
  refine xr_aload_n 0 (r := (some a0)) F dX17_init_0 rfl ?_
  refine xr_obj F dX17_init_1 q3253 q200 (q_objcode) (xroom hRm (Nat.le_of_ble_eq_true rfl) (Nat.le_of_ble_eq_true rfl)) (xcat (Nat.le_of_ble_eq_true rfl)) ?_
  refine xr_aload_n 0 (r := (some a0)) F dX17_init_4 rfl ?_
  refine xr_iload_n 1 F dX17_init_5 rfl ?_
  refine xr_put (r := (some a0)) (ref := "ReserveLedger$Sighting") F dX17_init_6 xk_37 (by decide) (Or.inl q3254) (Or.inl rfl) (Or.inr ⟨rfl, hmn.1, rfl, q3254⟩) ⟨rfl, rfl⟩ ?_
  refine xr_aload_n 0 (r := (some a0)) F dX17_init_9 rfl ?_
  refine xr_iload_n 2 F dX17_init_10 rfl ?_
  refine xr_put (r := (some a0)) (ref := "ReserveLedger$Sighting") F dX17_init_11 xk_37 (by decide) (Or.inl q3255) (Or.inl rfl) (Or.inr ⟨rfl, hmn.1, rfl, q3255⟩) ⟨rfl, rfl⟩ ?_
  refine xr_aload_n 0 (r := (some a0)) F dX17_init_14 rfl ?_
  refine xr_iload_n 3 F dX17_init_15 rfl ?_
  refine xr_put (r := (some a0)) (ref := "ReserveLedger$Sighting") F dX17_init_16 xk_37 (by decide) (Or.inl q3257) (Or.inl rfl) (Or.inr ⟨rfl, hmn.1, rfl, q3257⟩) ⟨rfl, rfl⟩ ?_
  refine xr_aload_n 0 (r := (some a0)) F dX17_init_19 rfl ?_
  refine xr_iload 4 F dX17_init_20 rfl ?_
  refine xr_put (r := (some a0)) (ref := "ReserveLedger$Sighting") F dX17_init_22 xk_37 (by decide) (Or.inl q3259) (Or.inl rfl) (Or.inr ⟨rfl, hmn.1, rfl, q3259⟩) ⟨rfl, rfl⟩ ?_
  exact xr_vret F dX17_init_25
theorem fJ27_dec_m {l : Launch} {D : xD} {s0 : State} {b0 : Nat} {Γ : Nat → Option Nat} (G : xG l D s0 b0 Γ) (p0 : Int32) (p1 : Int32) : xMeth l D s0 Γ yJ27_dec (Cond.code yJ27_dec cJ27_dec 2 (some .int)) (1) (12) [.int p0, .int p1] xeI (fJ27_dec p0 p1) := by
  refine xMeth.of (lv0 := [(0, .int p0), (1, .int p1)]) G (by decide +kernel) (Or.inl rfl) (Nat.le_of_ble_eq_true rfl) rfl (fun x F hnL hRm hmn ht e1 e2 e3 e4 => ?_)
  have hno : ∀ pc, xNo x pc := fun pc z hz => by rw [ht.1 rfl] at hz; cases hz
  unfold fJ27_dec
  refine xs_inc [0, 1] F dJ27_dec_0 rfl hnL rfl rfl (xk1 rfl rfl xk0) (fun x0_0 => ?_)
  refine xr_iload_n 0 F dJ27_dec_3 rfl ?_
  refine xr_if_ge 11 F dJ27_dec_4 rfl ?_ ?_
  · refine xr_iload_n 0 F dJ27_dec_11 rfl ?_
    exact xr_iret F dJ27_dec_12
  · refine xr_iload_n 1 F dJ27_dec_7 rfl ?_
    refine xr_iconst (1 : Int32) F dJ27_dec_8 rfl ?_
    refine xr_isub F dJ27_dec_9 ?_
    refine xr_letI (fun x0_10 => ?_)
    refine xs_i_n [] F dJ27_dec_10 hnL rfl rfl xk0 ?_
    refine xr_iload_n 0 F dJ27_dec_11 rfl ?_
    exact xr_iret F dJ27_dec_12
theorem fJ27_addFirst_m {l : Launch} {D : xD} {s0 : State} {b0 : Nat} {Γ : Nat → Option Nat} (G : xG l D s0 b0 Γ) (a0 : Nat) (p0 : Option Nat) : xMeth l D s0 Γ yJ27_addFirst (Cond.code yJ27_addFirst cJ27_addFirst 3 none) (5) (132) [.ref a0, va_rf p0] xeV (fJ27_addFirst a0 p0) := by
  refine xMeth.of (lv0 := [(0, va_rf (some a0)), (1, va_rf p0)]) G (by decide +kernel) (Or.inl rfl) (by simp [lg_sl, xrf_cat, xct_i, xct_l, xct_d, xct_r]) (by simp [lv_args, xrf_cat, xct_i, xct_l, xct_d, xct_r, xrf_some]) (fun x F hnL hRm hmn ht e1 e2 e3 e4 => ?_)
  have hno : ∀ pc, xNo x pc := fun pc z hz => by rw [ht.1 rfl] at hz; cases hz
  unfold fJ27_addFirst
  refine xr_aload_n 1 (r := p0) F dJ27_addFirst_0 rfl ?_
  refine xr_ifnonnull 12 F dJ27_addFirst_1 rfl ?_ ?_
  · exact xI.stuck
  · refine xr_aload_n 0 (r := (some a0)) F dJ27_addFirst_12 rfl ?_
    refine xr_gR (r := (some a0)) (ref := "java/util/ArrayDeque") F dJ27_addFirst_13 (C := RJ27) (T := TJ27) (N := 3) rfl (by decide) (Or.inl q2000) (Or.inl rfl) (fun v13 => ?_)
    refine xs_a_n [0, 1] F dJ27_addFirst_16 hnL rfl rfl (xk1 rfl rfl (xk2 rfl (xrf_cat _) xk0)) ?_
    refine xr_aload_n 0 (r := v13) F dJ27_addFirst_17 rfl ?_
    refine xr_aload_n 1 (r := (some a0)) F dJ27_addFirst_18 rfl ?_
    refine xr_aload_n 1 (r := (some a0)) F dJ27_addFirst_19 rfl ?_
    refine xr_gI (r := (some a0)) (ref := "java/util/ArrayDeque") F dJ27_addFirst_20 (C := RJ27) (T := TJ27) (N := 3) rfl (by decide) (Or.inl q2003) (Or.inl rfl) (fun v20 => ?_)
    refine xr_aload_n 0 (r := v13) F dJ27_addFirst_23 rfl ?_
    refine xr_len (r := v13) F dJ27_addFirst_24 (fun v24 => ?_)
    refine xr_SI (y := yJ27_dec) (As := [.int v20, .int v24]) F (hno _) dJ27_addFirst_25 (fJ27_dec_m (xFG F) v20 v24) (Or.inl rfl) q3246 q155 (Or.inl q3244) q3245 (xroom hRm (Nat.le_of_ble_eq_true rfl) (Nat.le_of_ble_eq_true rfl)) ⟨by decide, by decide⟩ n_J27_dec rfl (xcat (Nat.le_of_ble_eq_true rfl)) (fun v25 => ?_)
    refine xr_dup_x1 F dJ27_addFirst_28 rfl (xrf_cat _) ?_
    refine xr_put (r := (some a0)) (ref := "java/util/ArrayDeque") F dJ27_addFirst_29 xk_23 (by decide) (Or.inl q2003) (Or.inl rfl) (Or.inl rfl) ⟨rfl, rfl⟩ ?_
    refine xr_aload_n 2 (r := p0) F dJ27_addFirst_32 rfl ?_
    refine xr_aast (v := p0) (r := v13) F dJ27_addFirst_33 rfl xokObj_ok ?_
    refine xr_aload_n 1 (r := (some a0)) F dJ27_addFirst_34 rfl ?_
    refine xr_gI (r := (some a0)) (ref := "java/util/ArrayDeque") F dJ27_addFirst_35 (C := RJ27) (T := TJ27) (N := 3) rfl (by decide) (Or.inl q2003) (Or.inl rfl) (fun v35 => ?_)
    refine xr_aload_n 1 (r := (some a0)) F dJ27_addFirst_38 rfl ?_
    refine xr_gI (r := (some a0)) (ref := "java/util/ArrayDeque") F dJ27_addFirst_39 (C := RJ27) (T := TJ27) (N := 3) rfl (by decide) (Or.inl q2004) (Or.inl rfl) (fun v39 => ?_)
    refine xr_icmp_ne 50 F dJ27_addFirst_42 rfl ?_ ?_
    · refine xr_aload_n 1 (r := (some a0)) F dJ27_addFirst_45 rfl ?_
      refine xr_iconst (1 : Int32) F dJ27_addFirst_46 rfl ?_
      refine xr_VV (y := yJ27_grow) (As := [.int (1 : Int32)]) (r := (some a0)) F (hno _) dJ27_addFirst_47 (fun z => fJ27_grow_m (xFG F) z (1 : Int32)) (Or.inl rfl) (ci := 23) (C := RJ27) (T := TJ27) rfl q3061 q3058 q3060 qs42 (xroom hRm (Nat.le_of_ble_eq_true rfl) (Nat.le_of_ble_eq_true rfl)) ⟨by decide, by decide⟩ n_J27_grow rfl (xcat (Nat.le_of_ble_eq_true rfl)) (fun _ => ?_)
      exact xr_vret F dJ27_addFirst_50
    · exact xr_vret F dJ27_addFirst_50
theorem fJ27_elementAt_m {l : Launch} {D : xD} {s0 : State} {b0 : Nat} {Γ : Nat → Option Nat} (G : xG l D s0 b0 Γ) (p0 : Option Nat) (p1 : Int32) : xMeth l D s0 Γ yJ27_elementAt (Cond.code yJ27_elementAt cJ27_elementAt 2 (some (.object "java/lang/Object"))) (1) (12) [va_rf p0, .int p1] xeR (fJ27_elementAt p0 p1) := by
  refine xMeth.of (lv0 := [(0, va_rf p0), (1, .int p1)]) G (by decide +kernel) (Or.inl rfl) (by simp [lg_sl, xrf_cat, xct_i, xct_l, xct_d, xct_r]) (by simp [lv_args, xrf_cat, xct_i, xct_l, xct_d, xct_r, xrf_some]) (fun x F hnL hRm hmn ht e1 e2 e3 e4 => ?_)
  have hno : ∀ pc, xNo x pc := fun pc z hz => by rw [ht.1 rfl] at hz; cases hz
  unfold fJ27_elementAt
  refine xr_aload_n 0 (r := p0) F dJ27_elementAt_0 rfl ?_
  refine xr_iload_n 1 F dJ27_elementAt_1 rfl ?_
  refine xr_aald (r := p0) F dJ27_elementAt_2 (fun v2 => ?_)
  exact xr_aret (v := v2) F dJ27_elementAt_3 (Or.inl ⟨_, rfl⟩)
theorem fJ27_pollLast_m {l : Launch} {D : xD} {s0 : State} {b0 : Nat} {Γ : Nat → Option Nat} (G : xG l D s0 b0 Γ) (a0 : Nat) : xMeth l D s0 Γ yJ27_pollLast (Cond.code yJ27_pollLast cJ27_pollLast 4 (some (.object "java/lang/Object"))) (2) (33) [.ref a0] xeR (fJ27_pollLast a0) := by
  refine xMeth.of (lv0 := [(0, va_rf (some a0))]) G (by decide +kernel) (Or.inl rfl) (Nat.le_of_ble_eq_true rfl) rfl (fun x F hnL hRm hmn ht e1 e2 e3 e4 => ?_)
  have hno : ∀ pc, xNo x pc := fun pc z hz => by rw [ht.1 rfl] at hz; cases hz
  unfold fJ27_pollLast
  refine xr_aload_n 0 (r := (some a0)) F dJ27_pollLast_0 rfl ?_
  refine xr_gR (r := (some a0)) (ref := "java/util/ArrayDeque") F dJ27_pollLast_1 (C := RJ27) (T := TJ27) (N := 3) rfl (by decide) (Or.inl q2000) (Or.inl rfl) (fun v1 => ?_)
  refine xr_dup F dJ27_pollLast_4 (xrf_cat _) ?_
  refine xs_a_n [0] F dJ27_pollLast_5 hnL rfl rfl (xk2 rfl (xrf_cat _) xk0) ?_
  refine xr_aload_n 1 (r := (some a0)) F dJ27_pollLast_6 rfl ?_
  refine xr_gI (r := (some a0)) (ref := "java/util/ArrayDeque") F dJ27_pollLast_7 (C := RJ27) (T := TJ27) (N := 3) rfl (by decide) (Or.inl q2004) (Or.inl rfl) (fun v7 => ?_)
  refine xr_aload_n 0 (r := v1) F dJ27_pollLast_10 rfl ?_
  refine xr_len (r := v1) F dJ27_pollLast_11 (fun v11 => ?_)
  refine xr_SI (y := yJ27_dec) (As := [.int v7, .int v11]) F (hno _) dJ27_pollLast_12 (fJ27_dec_m (xFG F) v7 v11) (Or.inl rfl) q3246 q155 (Or.inl q3244) q3245 (xroom hRm (Nat.le_of_ble_eq_true rfl) (Nat.le_of_ble_eq_true rfl)) ⟨by decide, by decide⟩ n_J27_dec rfl (xcat (Nat.le_of_ble_eq_true rfl)) (fun v12 => ?_)
  refine xr_dup F dJ27_pollLast_15 rfl ?_
  refine xs_i_n [0, 1] F dJ27_pollLast_16 hnL rfl rfl (xk2 rfl (xrf_cat _) (xk1 rfl rfl xk0)) ?_
  refine xr_SR (y := yJ27_elementAt) (As := [va_rf v1, .int v12]) F (hno _) dJ27_pollLast_17 (fJ27_elementAt_m (xFG F) v1 v12) (Or.inl rfl) q1113 q155 (Or.inl q1111) q1112 (xroom hRm (Nat.le_of_ble_eq_true rfl) (Nat.le_of_ble_eq_true rfl)) ⟨by decide, by decide⟩ n_J27_elementAt rfl (xcat (Nat.le_of_ble_eq_true rfl)) (fun v17 => ?_)
  refine xs_a_n [0, 1, 2] F dJ27_pollLast_20 hnL rfl rfl (xk2 rfl rfl (xk1 rfl rfl (xk1 rfl rfl xk0))) ?_
  refine xr_aload_n 0 (r := v17) F dJ27_pollLast_21 rfl ?_
  refine xr_ifnull 34 F dJ27_pollLast_22 rfl ?_ ?_
  · refine xr_aload_n 0 (r := v17) F dJ27_pollLast_34 rfl ?_
    exact xr_aret (v := v17) F dJ27_pollLast_35 (Or.inl ⟨_, rfl⟩)
  · refine xr_aload_n 2 (r := v1) F dJ27_pollLast_25 rfl ?_
    refine xr_aload_n 3 (r := (some a0)) F dJ27_pollLast_26 rfl ?_
    refine xr_iload_n 1 F dJ27_pollLast_27 rfl ?_
    refine xr_dup_x1 F dJ27_pollLast_28 rfl (xrf_cat _) ?_
    refine xr_put (r := (some a0)) (ref := "java/util/ArrayDeque") F dJ27_pollLast_29 xk_23 (by decide) (Or.inl q2004) (Or.inl rfl) (Or.inl rfl) ⟨rfl, rfl⟩ ?_
    refine xr_null F dJ27_pollLast_32 ?_
    refine xr_aast (v := none) (r := v1) F dJ27_pollLast_33 rfl xokObj_ok ?_
    refine xr_aload_n 0 (r := v17) F dJ27_pollLast_34 rfl ?_
    exact xr_aret (v := v17) F dJ27_pollLast_35 (Or.inl ⟨_, rfl⟩)
theorem fJ27_removeLast_m {l : Launch} {D : xD} {s0 : State} {b0 : Nat} {Γ : Nat → Option Nat} (G : xG l D s0 b0 Γ) (a0 : Nat) : xMeth l D s0 Γ yJ27_removeLast (Cond.code yJ27_removeLast cJ27_removeLast 2 (some (.object "java/lang/Object"))) (3) (56) [.ref a0] xeR (fJ27_removeLast a0) := by
  refine xMeth.of (lv0 := [(0, va_rf (some a0))]) G (by decide +kernel) (Or.inl rfl) (Nat.le_of_ble_eq_true rfl) rfl (fun x F hnL hRm hmn ht e1 e2 e3 e4 => ?_)
  have hno : ∀ pc, xNo x pc := fun pc z hz => by rw [ht.1 rfl] at hz; cases hz
  unfold fJ27_removeLast
  refine xr_aload_n 0 (r := (some a0)) F dJ27_removeLast_0 rfl ?_
  refine xr_VR (y := yJ27_pollLast) (As := []) (r := (some a0)) F (hno _) dJ27_removeLast_1 (fun z => fJ27_pollLast_m (xFG F) z) (Or.inl rfl) (ci := 23) (C := RJ27) (T := TJ27) rfl q3243 q3240 q3241 q3242 (xroom hRm (Nat.le_of_ble_eq_true rfl) (Nat.le_of_ble_eq_true rfl)) ⟨by decide, by decide⟩ n_J27_pollLast rfl (xcat (Nat.le_of_ble_eq_true rfl)) (fun v1 => ?_)
  refine xs_a_n [] F dJ27_removeLast_4 hnL rfl rfl xk0 ?_
  refine xr_aload_n 0 (r := v1) F dJ27_removeLast_5 rfl ?_
  refine xr_ifnonnull 17 F dJ27_removeLast_6 rfl ?_ ?_
  · exact xI.stuck
  · refine xr_aload_n 0 (r := v1) F dJ27_removeLast_17 rfl ?_
    exact xr_aret (v := v1) F dJ27_removeLast_18 (Or.inl ⟨_, rfl⟩)
theorem fX1_survey_p99_ok {x : xC} (F : xF x RX1 cX1_survey (some .long)) (hnL : xnL x = 8) (hRm : ∃ dc ds, x.2.2.2.1 = { frames := 10, cells := dc, slots := ds, locals := 241 }) (hno : ∀ pc, xNo x pc) (hmn : xmn x = "survey" ∧ xmy x yX1_survey) (l0 : Nat) (l2 : Int32) (l3 : Int32) (l6 : Option Nat) : xI x xeJ 99 [(0, va_rf (some l0)), (2, .int l2), (3, .int l3), (6, va_rf l6)] [] (fX1_survey_p99 l0 l2 l3 l6) := by
  unfold fX1_survey_p99
  refine xr_new F dX1_survey_99 xk_37 xdf_37 q2766 q3249 q191 (fun v99 => ?_)
  refine xr_dup F dX1_survey_102 (xrf_cat _) ?_
  refine xr_aload_n 0 (r := (some l0)) F dX1_survey_103 rfl ?_
  refine xr_gR (r := (some l0)) (ref := "ReserveLedger") F dX1_survey_104 (C := RX1) (T := TX1) (N := 7) rfl (by decide) (Or.inl q614) (Or.inl rfl) (fun v104 => ?_)
  refine xr_gI (r := v104) (ref := "ReserveLedger$State") F dX1_survey_107 (C := RX2) (T := TX2) (N := 5) rfl (by decide) (Or.inr ⟨_, q589⟩) (Or.inl rfl) (fun v107 => ?_)
  refine xr_aload 3 (r := l6) F dX1_survey_110 rfl ?_
  refine xr_gI (r := l6) (ref := "ReserveLedger$Herd") F dX1_survey_112 (C := RX6) (T := TX6) (N := 8) rfl (by decide) (Or.inr ⟨_, q2049⟩) (Or.inl rfl) (fun v112 => ?_)
  refine xr_iload_n 1 F dX1_survey_115 rfl ?_
  refine xr_iload_n 2 F dX1_survey_116 rfl ?_
  refine xr_IV (y := yX17_init) (As := [.int v107, .int v112, .int l2, .int l3]) F (hno _) dX1_survey_117 (fX17_init_m (xFG F) v99 v107 v112 l2 l3) rfl rfl q3252 (Or.inl q3250) q3251 (xroom hRm (Nat.le_of_ble_eq_true rfl) (Nat.le_of_ble_eq_true rfl)) ⟨by decide, by decide⟩ n_X17_init rfl (xcat (Nat.le_of_ble_eq_true rfl)) (fun _ => ?_)
  refine xs_a [3] F dX1_survey_120 hnL rfl rfl (xk2 rfl (xrf_cat _) xk0) ?_
  refine xr_aload 1 (r := l6) F dX1_survey_122 rfl ?_
  refine xr_gR (r := l6) (ref := "ReserveLedger$Herd") F dX1_survey_124 (C := RX6) (T := TX6) (N := 8) rfl (by decide) (Or.inr ⟨_, q2055⟩) (Or.inl rfl) (fun v124 => ?_)
  refine xr_aload 0 (r := (some v99)) F dX1_survey_127 rfl ?_
  refine xr_VV (y := yJ27_addFirst) (As := [va_rf (some v99)]) (r := v124) F (hno _) dX1_survey_129 (fun z => fJ27_addFirst_m (xFG F) z (some v99)) (Or.inl rfl) (ci := 23) (C := RJ27) (T := TJ27) rfl q3273 q3270 q3271 q3272 (xroom hRm (Nat.le_of_ble_eq_true rfl) (Nat.le_of_ble_eq_true rfl)) ⟨by decide, by decide⟩ n_J27_addFirst rfl (xcat (Nat.le_of_ble_eq_true rfl)) (fun _ => ?_)
  refine xr_aload 0 (r := (some v99)) F dX1_survey_132 rfl ?_
  refine xr_VJ (y := yX17_estimate) (As := []) (r := (some v99)) F (hno _) dX1_survey_134 (fun z => fX17_estimate_m (xFG F) z) (Or.inl rfl) (ci := 37) (C := RX17) (T := TX17) rfl q2782 q2779 q2780 q2781 (xroom hRm (Nat.le_of_ble_eq_true rfl) (Nat.le_of_ble_eq_true rfl)) ⟨by decide, by decide⟩ n_X17_estimate rfl (xcat (Nat.le_of_ble_eq_true rfl)) (fun v134 => ?_)
  exact xr_lret F dX1_survey_137
theorem fX1_survey_p63_ok {x : xC} (F : xF x RX1 cX1_survey (some .long)) (hnL : xnL x = 8) (hRm : ∃ dc ds, x.2.2.2.1 = { frames := 10, cells := dc, slots := ds, locals := 241 }) (hno : ∀ pc, xNo x pc) (hmn : xmn x = "survey" ∧ xmy x yX1_survey) (l0 : Nat) (l1 : Int32) (l2 : Int32) (l3 : Int32) (s0 : Int32) : xI x xeJ 63 [(0, va_rf (some l0)), (1, .int l1), (2, .int l2), (3, .int l3)] [.int s0] (fX1_survey_p63 l0 l1 l2 l3 s0) := by
  unfold fX1_survey_p63
  refine xr_SV (y := yX1_checkArgument) (As := [.int s0]) F (hno _) dX1_survey_63 (fX1_checkArgument_m (xFG F) s0) (Or.inl rfl) q2912 q121 (Or.inl q2910) q2911 (xroom hRm (Nat.le_of_ble_eq_true rfl) (Nat.le_of_ble_eq_true rfl)) ⟨by decide, by decide⟩ n_X1_checkArgument rfl (xcat (Nat.le_of_ble_eq_true rfl)) (fun _ => ?_)
  refine xr_aload_n 0 (r := (some l0)) F dX1_survey_66 rfl ?_
  refine xr_iload_n 1 F dX1_survey_67 rfl ?_
  refine xr_VR (y := yX1_changed) (As := [.int l1]) (r := (some l0)) F (hno _) dX1_survey_68 (fun z => fX1_changed_m (xFG F) z l1) (Or.inl rfl) (ci := 0) (C := RX1) (T := TX1) rfl q3202 q3199 q3201 qs49 (xroom hRm (Nat.le_of_ble_eq_true rfl) (Nat.le_of_ble_eq_true rfl)) ⟨by decide, by decide⟩ n_X1_changed rfl (xcat (Nat.le_of_ble_eq_true rfl)) (fun v68 => ?_)
  refine xs_a [0, 2, 3] F dX1_survey_71 hnL rfl rfl (xk1 rfl rfl (xk1 rfl rfl (xk1 rfl rfl xk0))) ?_
  refine xr_aload 0 (r := v68) F dX1_survey_73 rfl ?_
  refine xr_gR (r := v68) (ref := "ReserveLedger$Herd") F dX1_survey_75 (C := RX6) (T := TX6) (N := 8) rfl (by decide) (Or.inr ⟨_, q2055⟩) (Or.inl rfl) (fun v75 => ?_)
  refine xr_VI (y := yJ27_size) (As := []) (r := v75) F (hno _) dX1_survey_78 (fun z => fJ27_size_m (xFG F) z) (Or.inl rfl) (ci := 23) (C := RJ27) (T := TJ27) rfl q1191 q2522 q1189 q1190 (xroom hRm (Nat.le_of_ble_eq_true rfl) (Nat.le_of_ble_eq_true rfl)) ⟨by decide, by decide⟩ n_J27_size rfl (xcat (Nat.le_of_ble_eq_true rfl)) (fun v78 => ?_)
  refine xr_bipush (20 : Int32) F dX1_survey_81 rfl ?_
  refine xr_icmp_ne 99 F dX1_survey_83 rfl ?_ ?_
  · refine xr_aload 0 (r := v68) F dX1_survey_86 rfl ?_
    refine xr_gR (r := v68) (ref := "ReserveLedger$Herd") F dX1_survey_88 (C := RX6) (T := TX6) (N := 8) rfl (by decide) (Or.inr ⟨_, q2055⟩) (Or.inl rfl) (fun v88 => ?_)
    refine xr_VR (y := yJ27_removeLast) (As := []) (r := v88) F (hno _) dX1_survey_91 (fun z => fJ27_removeLast_m (xFG F) z) (Or.inl rfl) (ci := 23) (C := RJ27) (T := TJ27) rfl q3239 q3236 q3237 q3238 (xroom hRm (Nat.le_of_ble_eq_true rfl) (Nat.le_of_ble_eq_true rfl)) ⟨by decide, by decide⟩ n_J27_removeLast rfl (xcat (Nat.le_of_ble_eq_true rfl)) (fun v91 => ?_)
    refine xr_castE (ci := 37) (r := v91) F dX1_survey_94 q2766 rfl ?_
    refine xs_a [0, 1, 2, 3] F dX1_survey_97 hnL rfl rfl (xk2 rfl (xrf_cat _) (xk1 rfl rfl (xk1 rfl rfl (xk1 rfl rfl xk0)))) ?_
    exact xI.sub [2, 3, 4, 1] rfl (fX1_survey_p99_ok F hnL hRm hno hmn l0 l2 l3 v68)
  · exact xI.sub [1, 2, 3, 0] rfl (fX1_survey_p99_ok F hnL hRm hno hmn l0 l2 l3 v68)
theorem fX1_survey_p62_ok {x : xC} (F : xF x RX1 cX1_survey (some .long)) (hnL : xnL x = 8) (hRm : ∃ dc ds, x.2.2.2.1 = { frames := 10, cells := dc, slots := ds, locals := 241 }) (hno : ∀ pc, xNo x pc) (hmn : xmn x = "survey" ∧ xmy x yX1_survey) (l0 : Nat) (l1 : Int32) (l2 : Int32) (l3 : Int32) : xI x xeJ 62 [(0, va_rf (some l0)), (1, .int l1), (2, .int l2), (3, .int l3)] [] (fX1_survey_p62 l0 l1 l2 l3) := by
  unfold fX1_survey_p62
  refine xr_iconst (0 : Int32) F dX1_survey_62 rfl ?_
  exact xI.sub [0, 1, 2, 3] rfl (fX1_survey_p63_ok F hnL hRm hno hmn l0 l1 l2 l3 (0 : Int32))
theorem fX1_survey_m {l : Launch} {D : xD} {s0 : State} {b0 : Nat} {Γ : Nat → Option Nat} (G : xG l D s0 b0 Γ) (a0 : Nat) (p0 : Int32) (p1 : Int32) (p2 : Int32) : xMeth l D s0 Γ yX1_survey (Cond.code yX1_survey cX1_survey 8 (some .long)) (10) (241) [.ref a0, .int p0, .int p1, .int p2] xeJ (fX1_survey a0 p0 p1 p2) := by
  refine xMeth.of (lv0 := [(0, va_rf (some a0)), (1, .int p0), (2, .int p1), (3, .int p2)]) G (by decide +kernel) (Or.inl rfl) (Nat.le_of_ble_eq_true rfl) rfl (fun x F hnL hRm hmn ht e1 e2 e3 e4 => ?_)
  have hno : ∀ pc, xNo x pc := fun pc z hz => by rw [ht.1 rfl] at hz; cases hz
  unfold fX1_survey
  refine xr_aload_n 0 (r := (some a0)) F dX1_survey_0 rfl ?_
  refine xr_iload_n 1 F dX1_survey_1 rfl ?_
  refine xr_VR (y := yX1_herd) (As := [.int p0]) (r := (some a0)) F (hno _) dX1_survey_2 (fun z => fX1_herd_m (xFG F) z p0) (Or.inl rfl) (ci := 0) (C := RX1) (T := TX1) rfl q2504 q2501 q2503 qs34 (xroom hRm (Nat.le_of_ble_eq_true rfl) (Nat.le_of_ble_eq_true rfl)) ⟨by decide, by decide⟩ n_X1_herd rfl (xcat (Nat.le_of_ble_eq_true rfl)) (fun v2 => ?_)
  refine xs_a [0, 1, 2, 3] F dX1_survey_5 hnL rfl rfl (xk1 rfl rfl (xk1 rfl rfl (xk1 rfl rfl (xk2 rfl rfl xk0)))) ?_
  refine xr_aload 0 (r := v2) F dX1_survey_7 rfl ?_
  refine xr_gR (r := v2) (ref := "ReserveLedger$Herd") F dX1_survey_9 (C := RX6) (T := TX6) (N := 8) rfl (by decide) (Or.inr ⟨_, q2043⟩) (Or.inl rfl) (fun v9 => ?_)
  refine xr_VI (y := yX10_total) (As := []) (r := v9) F (hno _) dX1_survey_12 (fun z => fX10_total_m (xFG F) z) (Or.inl rfl) (ci := 24) (C := RX10) (T := TX10) rfl q1642 q2515 q1640 q1641 (xroom hRm (Nat.le_of_ble_eq_true rfl) (Nat.le_of_ble_eq_true rfl)) ⟨by decide, by decide⟩ n_X10_total rfl (xcat (Nat.le_of_ble_eq_true rfl)) (fun v12 => ?_)
  refine xs_i [0, 1, 2, 3, 4] F dX1_survey_15 hnL rfl rfl (xk2 rfl (xrf_cat _) (xk1 rfl rfl (xk1 rfl rfl (xk1 rfl rfl (xk1 rfl rfl xk0))))) ?_
  refine xr_iload_n 4 F dX1_survey_17 rfl ?_
  refine xr_iconst (1 : Int32) F dX1_survey_18 rfl ?_
  refine xr_iload 0 F dX1_survey_19 rfl ?_
  refine xr_SI (y := yX1_inRange) (As := [.int p1, .int (1 : Int32), .int v12]) F (hno _) dX1_survey_21 (fX1_inRange_m (xFG F) p1 (1 : Int32) v12) (Or.inl rfl) q646 q121 (Or.inl q644) q645 (xroom hRm (Nat.le_of_ble_eq_true rfl) (Nat.le_of_ble_eq_true rfl)) ⟨by decide, by decide⟩ n_X1_inRange rfl (xcat (Nat.le_of_ble_eq_true rfl)) (fun v21 => ?_)
  refine xr_if_eq 62 F dX1_survey_24 rfl ?_ ?_
  · exact xI.sub [2, 3, 4, 5] rfl (fX1_survey_p62_ok F hnL hRm hno hmn a0 p0 p1 p2)
  · refine xr_iload_n 5 F dX1_survey_27 rfl ?_
    refine xr_iconst (0 : Int32) F dX1_survey_28 rfl ?_
    refine xr_iload_n 4 F dX1_survey_29 rfl ?_
    refine xr_aload 1 (r := v2) F dX1_survey_30 rfl ?_
    refine xr_gI (r := v2) (ref := "ReserveLedger$Herd") F dX1_survey_32 (C := RX6) (T := TX6) (N := 8) rfl (by decide) (Or.inr ⟨_, q2049⟩) (Or.inl rfl) (fun v32 => ?_)
    refine xr_SI (y := yJ12_min) (As := [.int p1, .int v32]) F (hno _) dX1_survey_35 (fJ12_min_m (xFG F) p1 v32) (Or.inl rfl) q345 q135 (Or.inl q3235) q344 (xroom hRm (Nat.le_of_ble_eq_true rfl) (Nat.le_of_ble_eq_true rfl)) ⟨by decide, by decide⟩ n_J12_min rfl (xcat (Nat.le_of_ble_eq_true rfl)) (fun v35 => ?_)
    refine xr_SI (y := yX1_inRange) (As := [.int p2, .int (0 : Int32), .int v35]) F (hno _) dX1_survey_38 (fX1_inRange_m (xFG F) p2 (0 : Int32) v35) (Or.inl rfl) q646 q121 (Or.inl q644) q645 (xroom hRm (Nat.le_of_ble_eq_true rfl) (Nat.le_of_ble_eq_true rfl)) ⟨by decide, by decide⟩ n_X1_inRange rfl (xcat (Nat.le_of_ble_eq_true rfl)) (fun v38 => ?_)
    refine xr_if_eq 62 F dX1_survey_41 rfl ?_ ?_
    · exact xI.sub [2, 3, 4, 5] rfl (fX1_survey_p62_ok F hnL hRm hno hmn a0 p0 p1 p2)
    · refine xr_iload_n 4 F dX1_survey_44 rfl ?_
      refine xr_iload_n 5 F dX1_survey_45 rfl ?_
      refine xr_isub F dX1_survey_46 ?_
      refine xr_iload 0 F dX1_survey_47 rfl ?_
      refine xr_aload 1 (r := v2) F dX1_survey_49 rfl ?_
      refine xr_gI (r := v2) (ref := "ReserveLedger$Herd") F dX1_survey_51 (C := RX6) (T := TX6) (N := 8) rfl (by decide) (Or.inr ⟨_, q2049⟩) (Or.inl rfl) (fun v51 => ?_)
      refine xr_isub F dX1_survey_54 ?_
      refine xr_icmp_gt 62 F dX1_survey_55 rfl ?_ ?_
      · exact xI.sub [2, 3, 4, 5] rfl (fX1_survey_p62_ok F hnL hRm hno hmn a0 p0 p1 p2)
      · refine xr_iconst (1 : Int32) F dX1_survey_58 rfl ?_
        refine xr_goto 63 F dX1_survey_59 rfl ?_
        exact xI.sub [2, 3, 4, 5] rfl (fX1_survey_p63_ok F hnL hRm hno hmn a0 p0 p1 p2 (1 : Int32))
theorem fX0_survey_m {l : Launch} {D : xD} {s0 : State} {b0 : Nat} {Γ : Nat → Option Nat} (G : xG l D s0 b0 Γ) (p0 : Option Nat) (p1 : Int32) (p2 : Int32) (p3 : Int32) (p4 : Option Nat) : xMeth l D s0 Γ yX0_survey (Cond.codeWith yX0_survey cX0_survey 6 (some .int) [(0, 11, 14, 25), (0, 11, 18, 13)]) (11) (268) [va_rf p0, .int p1, .int p2, .int p3, va_rf p4] xeI (fX0_survey p0 p1 p2 p3 p4) := by
  refine xMeth.of (lv0 := [(0, va_rf p0), (1, .int p1), (2, .int p2), (3, .int p3), (4, va_rf p4)]) G (by decide +kernel) (Or.inr ⟨_, rfl⟩) (by simp [lg_sl, xrf_cat, xct_i, xct_l, xct_d, xct_r]) (by simp [lv_args, xrf_cat, xct_i, xct_l, xct_d, xct_r, xrf_some]) (fun x F hnL hRm hmn ht e1 e2 e3 e4 => ?_)
  have htb : x.2.2.2.2.2.2.2.2.2.1.exceptionTable.toList = tableOf [(0, 11, 14, 25), (0, 11, 18, 13)] := ht.2 _ rfl
  unfold fX0_survey
  refine xr_aload 4 (r := p4) F dX0_survey_0 rfl ?_
  refine xr_iconst (0 : Int32) F dX0_survey_2 rfl ?_
  refine xr_aload_n 0 (r := p0) F dX0_survey_3 rfl ?_
  refine xr_iload_n 1 F dX0_survey_4 rfl ?_
  refine xr_iload_n 2 F dX0_survey_5 rfl ?_
  refine xr_iload_n 3 F dX0_survey_6 rfl ?_
  refine xr_VJT (y := yX1_survey) (As := [.int p1, .int p2, .int p3]) (r := p0) F dX0_survey_7 (fun z => fX1_survey_m (xFG F) z p1 p2 p3) (Or.inl rfl) (ci := 0) (C := RX1) (T := TX1) rfl q3234 q3231 q3232 q3233 (xroom hRm (Nat.le_of_ble_eq_true rfl) (Nat.le_of_ble_eq_true rfl)) ⟨by decide, by decide⟩ n_X1_survey rfl (xcat (Nat.le_of_ble_eq_true rfl)) (fun v7 => ?_) (fun q => ?_)
  · refine xr_last (r := p4) F dX0_survey_10 ?_
    refine xr_goto 22 F dX0_survey_11 rfl ?_
    refine xr_iconst (0 : Int32) F dX0_survey_22 rfl ?_
    exact xr_iret F dX0_survey_23
  · refine xT.sel2 ?_ ?_
    · refine xT.catch F htb (tableOf []) ⟨0, 11, 14, 25⟩ (tableOf [(0, 11, 18, 13)]) rfl rfl xps0 rfl (Or.inr ⟨by decide, _, q2481, q739⟩) ?_
      refine xs_a [] F dX0_survey_14 hnL rfl rfl xk0 ?_
      refine xr_iconst (1 : Int32) F dX0_survey_16 rfl ?_
      exact xr_iret F dX0_survey_17
    refine xT.catch F htb (tableOf [(0, 11, 14, 25)]) ⟨0, 11, 18, 13⟩ (tableOf []) rfl rfl (xps1 (Or.inr ⟨by decide, _, 1, q2481, rfl⟩) xps0) rfl (Or.inr ⟨by decide, _, q1741, q226⟩) ?_
    refine xs_a [] F dX0_survey_18 hnL rfl rfl xk0 ?_
    refine xr_iconst (2 : Int32) F dX0_survey_20 rfl ?_
    exact xr_iret F dX0_survey_21
theorem fX1_kindOf_m {l : Launch} {D : xD} {s0 : State} {b0 : Nat} {Γ : Nat → Option Nat} (G : xG l D s0 b0 Γ) (p0 : Int32) : xMeth l D s0 Γ yX1_kindOf (Cond.code yX1_kindOf cX1_kindOf 1 (some (.object "ReserveLedger$Kind"))) (1) (12) [.int p0] xeR (fX1_kindOf p0) := by
  refine xMeth.of (lv0 := [(0, .int p0)]) G (by decide +kernel) (Or.inl rfl) (Nat.le_of_ble_eq_true rfl) rfl (fun x F hnL hRm hmn ht e1 e2 e3 e4 => ?_)
  have hno : ∀ pc, xNo x pc := fun pc z hz => by rw [ht.1 rfl] at hz; cases hz
  unfold fX1_kindOf
  refine xr_iload_n 0 F dX1_kindOf_0 rfl ?_
  refine xr_if_ne 10 F dX1_kindOf_1 rfl ?_ ?_
  · refine xr_gs (k := 10) F dX1_kindOf_4 rfl q3286 (fun v4 => ?_)
    refine xr_goto 24 F dX1_kindOf_7 rfl ?_
    exact xr_aret (v := v4) F dX1_kindOf_24 (Or.inl ⟨_, rfl⟩)
  · refine xr_iload_n 0 F dX1_kindOf_10 rfl ?_
    refine xr_iconst (1 : Int32) F dX1_kindOf_11 rfl ?_
    refine xr_icmp_ne 21 F dX1_kindOf_12 rfl ?_ ?_
    · refine xr_gs (k := 11) F dX1_kindOf_15 rfl q3288 (fun v15 => ?_)
      refine xr_goto 24 F dX1_kindOf_18 rfl ?_
      exact xr_aret (v := v15) F dX1_kindOf_24 (Or.inl ⟨_, rfl⟩)
    · refine xr_gs (k := 12) F dX1_kindOf_21 rfl q3290 (fun v21 => ?_)
      exact xr_aret (v := v21) F dX1_kindOf_24 (Or.inl ⟨_, rfl⟩)
theorem fX18_init_m {l : Launch} {D : xD} {s0 : State} {b0 : Nat} {Γ : Nat → Option Nat} (G : xG l D s0 b0 Γ) (a0 : Nat) (p0 : Int32) (p1 : Option Nat) (p2 : Int32) (p3 : Int32) (p4 : Int32) (p5 : Int32) : xMeth l D s0 Γ yX18_init (Cond.code yX18_init cX18_init 7 none) (1) (20) [.ref a0, .int p0, va_rf p1, .int p2, .int p3, .int p4, .int p5] xeV (fX18_init a0 p0 p1 p2 p3 p4 p5) := by
  refine xMeth.of (lv0 := [(0, va_rf (some a0)), (1, .int p0), (2, va_rf p1), (3, .int p2), (4, .int p3), (5, .int p4), (6, .int p5)]) G (by decide +kernel) (Or.inl rfl) (by simp [lg_sl, xrf_cat, xct_i, xct_l, xct_d, xct_r]) (by simp [lv_args, xrf_cat, xct_i, xct_l, xct_d, xct_r, xrf_some]) (fun x F hnL hRm hmn ht e1 e2 e3 e4 => ?_)
  have hno : ∀ pc, xNo x pc := fun pc z hz => by rw [ht.1 rfl] at hz; cases hz
  unfold fX18_init
  refine xr_aload_n 0 (r := (some a0)) F dX18_init_0 rfl ?_
  refine xr_obj F dX18_init_1 q3295 q200 (q_objcode) (xroom hRm (Nat.le_of_ble_eq_true rfl) (Nat.le_of_ble_eq_true rfl)) (xcat (Nat.le_of_ble_eq_true rfl)) ?_
  refine xr_aload_n 0 (r := (some a0)) F dX18_init_4 rfl ?_
  refine xr_iload_n 1 F dX18_init_5 rfl ?_
  refine xr_put (r := (some a0)) (ref := "ReserveLedger$Plan") F dX18_init_6 xk_38 (by decide) (Or.inl q3296) (Or.inl rfl) (Or.inr ⟨rfl, hmn.1, rfl, q3296⟩) ⟨rfl, rfl⟩ ?_
  refine xr_aload_n 0 (r := (some a0)) F dX18_init_9 rfl ?_
  refine xr_aload_n 2 (r := p1) F dX18_init_10 rfl ?_
  refine xr_put (r := (some a0)) (ref := "ReserveLedger$Plan") F dX18_init_11 xk_38 (by decide) (Or.inl q3298) (Or.inl rfl) (Or.inr ⟨rfl, hmn.1, rfl, q3298⟩) (xr_rf _ _) ?_
  refine xr_aload_n 0 (r := (some a0)) F dX18_init_14 rfl ?_
  refine xr_iload_n 3 F dX18_init_15 rfl ?_
  refine xr_put (r := (some a0)) (ref := "ReserveLedger$Plan") F dX18_init_16 xk_38 (by decide) (Or.inl q3300) (Or.inl rfl) (Or.inr ⟨rfl, hmn.1, rfl, q3300⟩) ⟨rfl, rfl⟩ ?_
  refine xr_aload_n 0 (r := (some a0)) F dX18_init_19 rfl ?_
  refine xr_iload 4 F dX18_init_20 rfl ?_
  refine xr_put (r := (some a0)) (ref := "ReserveLedger$Plan") F dX18_init_22 xk_38 (by decide) (Or.inl q3302) (Or.inl rfl) (Or.inr ⟨rfl, hmn.1, rfl, q3302⟩) ⟨rfl, rfl⟩ ?_
  refine xr_aload_n 0 (r := (some a0)) F dX18_init_25 rfl ?_
  refine xr_iload 5 F dX18_init_26 rfl ?_
  refine xr_put (r := (some a0)) (ref := "ReserveLedger$Plan") F dX18_init_28 xk_38 (by decide) (Or.inl q3304) (Or.inl rfl) (Or.inr ⟨rfl, hmn.1, rfl, q3304⟩) ⟨rfl, rfl⟩ ?_
  refine xr_aload_n 0 (r := (some a0)) F dX18_init_31 rfl ?_
  refine xr_iload 6 F dX18_init_32 rfl ?_
  refine xr_put (r := (some a0)) (ref := "ReserveLedger$Plan") F dX18_init_34 xk_38 (by decide) (Or.inl q3306) (Or.inl rfl) (Or.inr ⟨rfl, hmn.1, rfl, q3306⟩) ⟨rfl, rfl⟩ ?_
  exact xr_vret F dX18_init_37
theorem fX1_plan_p154_ok {x : xC} (F : xF x RX1 cX1_plan (some .int)) (hnL : xnL x = 11) (hRm : ∃ dc ds, x.2.2.2.1 = { frames := 11, cells := dc, slots := ds, locals := 236 }) (hno : ∀ pc, xNo x pc) (hmn : xmn x = "plan" ∧ xmy x yX1_plan) : ∀ (n : Nat) (l8 : Option Nat) (l9 : Nat) (l10 : Int32), xI x xeI 154 [(8, va_rf l8), (9, va_rf (some l9)), (10, .int l10)] [] (fX1_plan_p154 n l8 l9 l10) := by
  intro n
  induction n with
  | zero => intro l8 l9 l10; exact xI.stuck
  | succ n ih =>
    intro l8 l9 l10
    unfold fX1_plan_p154
    refine xr_aload 0 (r := l8) F dX1_plan_154 rfl ?_
    refine xr_iload 2 F dX1_plan_156 rfl ?_
    refine xr_VR (y := yX2_planAt) (As := [.int l10]) (r := l8) F (hno _) dX1_plan_158 (fun z => fX2_planAt_m (xFG F) z l10) (Or.inl rfl) (ci := 1) (C := RX2) (T := TX2) rfl q2811 q2808 q2809 q2810 (xroom hRm (Nat.le_of_ble_eq_true rfl) (Nat.le_of_ble_eq_true rfl)) ⟨by decide, by decide⟩ n_X2_planAt rfl (xcat (Nat.le_of_ble_eq_true rfl)) (fun v158 => ?_)
    refine xr_aload 1 (r := (some l9)) F dX1_plan_161 rfl ?_
    refine xr_acmp_eq 172 F dX1_plan_163 rfl ?_ ?_
    · refine xr_iload 2 F dX1_plan_172 rfl ?_
      exact xr_iret F dX1_plan_174
    · refine xs_inc [2, 0, 1] F dX1_plan_166 rfl hnL rfl rfl (xk1 rfl rfl (xk2 rfl (xrf_cat _) xk0)) (fun x10_166 => ?_)
      refine xr_goto 154 F dX1_plan_169 rfl ?_
      exact xI.sub [1, 2, 0] rfl (ih l8 l9 x10_166)
theorem fX1_plan_p96_ok {x : xC} (F : xF x RX1 cX1_plan (some .int)) (hnL : xnL x = 11) (hRm : ∃ dc ds, x.2.2.2.1 = { frames := 11, cells := dc, slots := ds, locals := 236 }) (hno : ∀ pc, xNo x pc) (hmn : xmn x = "plan" ∧ xmy x yX1_plan) (l0 : Nat) (l1 : Int32) (l2 : Int32) (l3 : Int32) (l4 : Int32) (l5 : Int32) (s0 : Int32) : xI x xeI 96 [(0, va_rf (some l0)), (1, .int l1), (2, .int l2), (3, .int l3), (4, .int l4), (5, .int l5)] [.int s0] (fX1_plan_p96 l0 l1 l2 l3 l4 l5 s0) := by
  unfold fX1_plan_p96
  refine xr_SV (y := yX1_checkState) (As := [.int s0]) F (hno _) dX1_plan_96 (fX1_checkState_m (xFG F) s0) (Or.inl rfl) q2993 q121 (Or.inl q2991) q2992 (xroom hRm (Nat.le_of_ble_eq_true rfl) (Nat.le_of_ble_eq_true rfl)) ⟨by decide, by decide⟩ n_X1_checkState rfl (xcat (Nat.le_of_ble_eq_true rfl)) (fun _ => ?_)
  refine xr_aload_n 0 (r := (some l0)) F dX1_plan_99 rfl ?_
  refine xr_VR (y := yX1_record) (As := []) (r := (some l0)) F (hno _) dX1_plan_100 (fun z => fX1_record_m (xFG F) z) (Or.inl rfl) (ci := 0) (C := RX1) (T := TX1) rfl q3012 q3009 q3011 qs40 (xroom hRm (Nat.le_of_ble_eq_true rfl) (Nat.le_of_ble_eq_true rfl)) ⟨by decide, by decide⟩ n_X1_record rfl (xcat (Nat.le_of_ble_eq_true rfl)) (fun v100 => ?_)
  refine xs_a [1, 2, 3, 4, 5] F dX1_plan_103 hnL rfl rfl (xk1 rfl rfl (xk1 rfl rfl (xk1 rfl rfl (xk1 rfl rfl (xk1 rfl rfl xk0))))) ?_
  refine xr_new F dX1_plan_105 xk_38 xdf_38 q3281 q3282 q192 (fun v105 => ?_)
  refine xr_dup F dX1_plan_108 (xrf_cat _) ?_
  refine xr_iload_n 1 F dX1_plan_109 rfl ?_
  refine xr_iload_n 2 F dX1_plan_110 rfl ?_
  refine xr_SR (y := yX1_kindOf) (As := [.int l2]) F (hno _) dX1_plan_111 (fX1_kindOf_m (xFG F) l2) (Or.inl rfl) q3285 q121 (Or.inl q3283) q3284 (xroom hRm (Nat.le_of_ble_eq_true rfl) (Nat.le_of_ble_eq_true rfl)) ⟨by decide, by decide⟩ n_X1_kindOf rfl (xcat (Nat.le_of_ble_eq_true rfl)) (fun v111 => ?_)
  refine xr_iload_n 3 F dX1_plan_114 rfl ?_
  refine xr_iload 4 F dX1_plan_115 rfl ?_
  refine xr_iload 5 F dX1_plan_117 rfl ?_
  refine xr_aload 0 (r := v100) F dX1_plan_119 rfl ?_
  refine xr_gI (r := v100) (ref := "ReserveLedger$State") F dX1_plan_121 (C := RX2) (T := TX2) (N := 5) rfl (by decide) (Or.inr ⟨_, q594⟩) (Or.inl rfl) (fun v121 => ?_)
  refine xr_IV (y := yX18_init) (As := [.int l1, va_rf v111, .int l3, .int l4, .int l5, .int v121]) F (hno _) dX1_plan_124 (fX18_init_m (xFG F) v105 l1 v111 l3 l4 l5 v121) rfl rfl q3294 (Or.inl q3292) q3293 (xroom hRm (Nat.le_of_ble_eq_true rfl) (Nat.le_of_ble_eq_true rfl)) ⟨by decide, by decide⟩ n_X18_init rfl (xcat (Nat.le_of_ble_eq_true rfl)) (fun _ => ?_)
  refine xs_a [0] F dX1_plan_127 hnL rfl rfl (xk2 rfl (xrf_cat _) xk0) ?_
  refine xr_aload 1 (r := v100) F dX1_plan_129 rfl ?_
  refine xr_dup F dX1_plan_131 (xrf_cat _) ?_
  refine xr_gI (r := v100) (ref := "ReserveLedger$State") F dX1_plan_132 (C := RX2) (T := TX2) (N := 5) rfl (by decide) (Or.inr ⟨_, q594⟩) (Or.inl rfl) (fun v132 => ?_)
  refine xr_iconst (1 : Int32) F dX1_plan_135 rfl ?_
  refine xr_iadd F dX1_plan_136 ?_
  refine xr_put (r := v100) (ref := "ReserveLedger$State") F dX1_plan_137 xk_1 (by decide) (Or.inr ⟨_, q594⟩) (Or.inl rfl) (Or.inl rfl) ⟨rfl, rfl⟩ ?_
  refine xr_aload 1 (r := v100) F dX1_plan_140 rfl ?_
  refine xr_gR (r := v100) (ref := "ReserveLedger$State") F dX1_plan_142 (C := RX2) (T := TX2) (N := 5) rfl (by decide) (Or.inr ⟨_, q587⟩) (Or.inl rfl) (fun v142 => ?_)
  refine xr_aload 0 (r := (some v105)) F dX1_plan_145 rfl ?_
  refine xr_VI (y := yJ19_add) (As := [va_rf (some v105)]) (r := v142) F (hno _) dX1_plan_147 (fun z => fJ19_add_m (xFG F) z (some v105)) (Or.inl rfl) (ci := 6) (C := RJ19) (T := TJ19) rfl q2111 q3321 q2109 q4000 (xroom hRm (Nat.le_of_ble_eq_true rfl) (Nat.le_of_ble_eq_true rfl)) ⟨by decide, by decide⟩ n_J19_add rfl (xcat (Nat.le_of_ble_eq_true rfl)) (fun v147 => ?_)
  refine xr_pop F dX1_plan_150 rfl ?_
  refine xr_iconst (0 : Int32) F dX1_plan_151 rfl ?_
  refine xr_letI (fun x10_152 => ?_)
  refine xs_i [0, 1] F dX1_plan_152 hnL rfl rfl (xk2 rfl (xrf_cat _) (xk1 rfl rfl xk0)) ?_
  exact xI.sub [2, 1, 0] rfl (fX1_plan_p154_ok F hnL hRm hno hmn xFU v100 v105 x10_152)
theorem fX1_plan_p73_ok {x : xC} (F : xF x RX1 cX1_plan (some .int)) (hnL : xnL x = 11) (hRm : ∃ dc ds, x.2.2.2.1 = { frames := 11, cells := dc, slots := ds, locals := 236 }) (hno : ∀ pc, xNo x pc) (hmn : xmn x = "plan" ∧ xmy x yX1_plan) (l0 : Nat) (l1 : Int32) (l2 : Int32) (l3 : Int32) (l4 : Int32) (l5 : Int32) (s0 : Int32) : xI x xeI 73 [(0, va_rf (some l0)), (1, .int l1), (2, .int l2), (3, .int l3), (4, .int l4), (5, .int l5)] [.int s0] (fX1_plan_p73 l0 l1 l2 l3 l4 l5 s0) := by
  unfold fX1_plan_p73
  refine xr_SV (y := yX1_checkArgument) (As := [.int s0]) F (hno _) dX1_plan_73 (fX1_checkArgument_m (xFG F) s0) (Or.inl rfl) q2912 q121 (Or.inl q2910) q2911 (xroom hRm (Nat.le_of_ble_eq_true rfl) (Nat.le_of_ble_eq_true rfl)) ⟨by decide, by decide⟩ n_X1_checkArgument rfl (xcat (Nat.le_of_ble_eq_true rfl)) (fun _ => ?_)
  refine xr_aload_n 0 (r := (some l0)) F dX1_plan_76 rfl ?_
  refine xr_gR (r := (some l0)) (ref := "ReserveLedger") F dX1_plan_77 (C := RX1) (T := TX1) (N := 7) rfl (by decide) (Or.inl q614) (Or.inl rfl) (fun v77 => ?_)
  refine xr_gR (r := v77) (ref := "ReserveLedger$State") F dX1_plan_80 (C := RX2) (T := TX2) (N := 5) rfl (by decide) (Or.inr ⟨_, q587⟩) (Or.inl rfl) (fun v80 => ?_)
  refine xr_VI (y := yJ19_size) (As := []) (r := v80) F (hno _) dX1_plan_83 (fun z => fJ19_size_m (xFG F) z) (Or.inl rfl) (ci := 6) (C := RJ19) (T := TJ19) rfl q841 q1713 q840 q3998 (xroom hRm (Nat.le_of_ble_eq_true rfl) (Nat.le_of_ble_eq_true rfl)) ⟨by decide, by decide⟩ n_J19_size rfl (xcat (Nat.le_of_ble_eq_true rfl)) (fun v83 => ?_)
  refine xr_bipush (12 : Int32) F dX1_plan_86 rfl ?_
  refine xr_icmp_ge 95 F dX1_plan_88 rfl ?_ ?_
  · refine xr_iconst (0 : Int32) F dX1_plan_95 rfl ?_
    exact xI.sub [0, 1, 2, 3, 4, 5] rfl (fX1_plan_p96_ok F hnL hRm hno hmn l0 l1 l2 l3 l4 l5 (0 : Int32))
  · refine xr_iconst (1 : Int32) F dX1_plan_91 rfl ?_
    refine xr_goto 96 F dX1_plan_92 rfl ?_
    exact xI.sub [0, 1, 2, 3, 4, 5] rfl (fX1_plan_p96_ok F hnL hRm hno hmn l0 l1 l2 l3 l4 l5 (1 : Int32))
theorem fX1_plan_p72_ok {x : xC} (F : xF x RX1 cX1_plan (some .int)) (hnL : xnL x = 11) (hRm : ∃ dc ds, x.2.2.2.1 = { frames := 11, cells := dc, slots := ds, locals := 236 }) (hno : ∀ pc, xNo x pc) (hmn : xmn x = "plan" ∧ xmy x yX1_plan) (l0 : Nat) (l1 : Int32) (l2 : Int32) (l3 : Int32) (l4 : Int32) (l5 : Int32) : xI x xeI 72 [(0, va_rf (some l0)), (1, .int l1), (2, .int l2), (3, .int l3), (4, .int l4), (5, .int l5)] [] (fX1_plan_p72 l0 l1 l2 l3 l4 l5) := by
  unfold fX1_plan_p72
  refine xr_iconst (0 : Int32) F dX1_plan_72 rfl ?_
  exact xI.sub [0, 1, 2, 3, 4, 5] rfl (fX1_plan_p73_ok F hnL hRm hno hmn l0 l1 l2 l3 l4 l5 (0 : Int32))
theorem fX1_plan_p35_ok {x : xC} (F : xF x RX1 cX1_plan (some .int)) (hnL : xnL x = 11) (hRm : ∃ dc ds, x.2.2.2.1 = { frames := 11, cells := dc, slots := ds, locals := 236 }) (hno : ∀ pc, xNo x pc) (hmn : xmn x = "plan" ∧ xmy x yX1_plan) (l0 : Nat) (l1 : Int32) (l2 : Int32) (l3 : Int32) (l4 : Int32) (l5 : Int32) (s0 : Int32) : xI x xeI 35 [(0, va_rf (some l0)), (1, .int l1), (2, .int l2), (3, .int l3), (4, .int l4), (5, .int l5)] [.int s0] (fX1_plan_p35 l0 l1 l2 l3 l4 l5 s0) := by
  unfold fX1_plan_p35
  refine xs_i [0, 1, 2, 3, 4, 5] F dX1_plan_35 hnL rfl rfl (xk1 rfl rfl (xk1 rfl rfl (xk1 rfl rfl (xk1 rfl rfl (xk1 rfl rfl (xk1 rfl rfl xk0)))))) ?_
  refine xr_iload_n 2 F dX1_plan_37 rfl ?_
  refine xr_aload_n 1 (r := (some l0)) F dX1_plan_38 rfl ?_
  refine xr_gR (r := (some l0)) (ref := "ReserveLedger") F dX1_plan_39 (C := RX1) (T := TX1) (N := 7) rfl (by decide) (Or.inl q614) (Or.inl rfl) (fun v39 => ?_)
  refine xr_gI (r := v39) (ref := "ReserveLedger$State") F dX1_plan_42 (C := RX2) (T := TX2) (N := 5) rfl (by decide) (Or.inr ⟨_, q589⟩) (Or.inl rfl) (fun v42 => ?_)
  refine xr_sipush (9999 : Int32) F dX1_plan_45 rfl ?_
  refine xr_SI (y := yX1_inRange) (As := [.int l1, .int v42, .int (9999 : Int32)]) F (hno _) dX1_plan_48 (fX1_inRange_m (xFG F) l1 v42 (9999 : Int32)) (Or.inl rfl) q646 q121 (Or.inl q644) q645 (xroom hRm (Nat.le_of_ble_eq_true rfl) (Nat.le_of_ble_eq_true rfl)) ⟨by decide, by decide⟩ n_X1_inRange rfl (xcat (Nat.le_of_ble_eq_true rfl)) (fun v48 => ?_)
  refine xr_if_eq 72 F dX1_plan_51 rfl ?_ ?_
  · exact xI.sub [1, 2, 3, 4, 5, 6] rfl (fX1_plan_p72_ok F hnL hRm hno hmn l0 l1 l2 l3 l4 l5)
  · refine xr_iload_n 3 F dX1_plan_54 rfl ?_
    refine xr_iconst (0 : Int32) F dX1_plan_55 rfl ?_
    refine xr_iconst (2 : Int32) F dX1_plan_56 rfl ?_
    refine xr_SI (y := yX1_inRange) (As := [.int l2, .int (0 : Int32), .int (2 : Int32)]) F (hno _) dX1_plan_57 (fX1_inRange_m (xFG F) l2 (0 : Int32) (2 : Int32)) (Or.inl rfl) q646 q121 (Or.inl q644) q645 (xroom hRm (Nat.le_of_ble_eq_true rfl) (Nat.le_of_ble_eq_true rfl)) ⟨by decide, by decide⟩ n_X1_inRange rfl (xcat (Nat.le_of_ble_eq_true rfl)) (fun v57 => ?_)
    refine xr_if_eq 72 F dX1_plan_60 rfl ?_ ?_
    · exact xI.sub [1, 2, 3, 4, 5, 6] rfl (fX1_plan_p72_ok F hnL hRm hno hmn l0 l1 l2 l3 l4 l5)
    · refine xr_iload 0 F dX1_plan_63 rfl ?_
      refine xr_if_eq 72 F dX1_plan_65 rfl ?_ ?_
      · exact xI.sub [1, 2, 3, 4, 5, 6] rfl (fX1_plan_p72_ok F hnL hRm hno hmn l0 l1 l2 l3 l4 l5)
      · refine xr_iconst (1 : Int32) F dX1_plan_68 rfl ?_
        refine xr_goto 73 F dX1_plan_69 rfl ?_
        exact xI.sub [1, 2, 3, 4, 5, 6] rfl (fX1_plan_p73_ok F hnL hRm hno hmn l0 l1 l2 l3 l4 l5 (1 : Int32))
theorem fX1_plan_m {l : Launch} {D : xD} {s0 : State} {b0 : Nat} {Γ : Nat → Option Nat} (G : xG l D s0 b0 Γ) (a0 : Nat) (p0 : Int32) (p1 : Int32) (p2 : Int32) (p3 : Int32) (p4 : Int32) : xMeth l D s0 Γ yX1_plan (Cond.code yX1_plan cX1_plan 11 (some .int)) (11) (236) [.ref a0, .int p0, .int p1, .int p2, .int p3, .int p4] xeI (fX1_plan a0 p0 p1 p2 p3 p4) := by
  refine xMeth.of (lv0 := [(0, va_rf (some a0)), (1, .int p0), (2, .int p1), (3, .int p2), (4, .int p3), (5, .int p4)]) G (by decide +kernel) (Or.inl rfl) (Nat.le_of_ble_eq_true rfl) rfl (fun x F hnL hRm hmn ht e1 e2 e3 e4 => ?_)
  have hno : ∀ pc, xNo x pc := fun pc z hz => by rw [ht.1 rfl] at hz; cases hz
  unfold fX1_plan
  refine xr_aload_n 0 (r := (some a0)) F dX1_plan_0 rfl ?_
  refine xr_iload_n 3 F dX1_plan_1 rfl ?_
  refine xr_iload 4 F dX1_plan_2 rfl ?_
  refine xr_VR (y := yX1_herdWith) (As := [.int p2, .int p3]) (r := (some a0)) F (hno _) dX1_plan_4 (fun z => fX1_herdWith_m (xFG F) z p2 p3) (Or.inl rfl) (ci := 0) (C := RX1) (T := TX1) rfl q2533 q2530 q2532 qs35 (xroom hRm (Nat.le_of_ble_eq_true rfl) (Nat.le_of_ble_eq_true rfl)) ⟨by decide, by decide⟩ n_X1_herdWith rfl (xcat (Nat.le_of_ble_eq_true rfl)) (fun v4 => ?_)
  refine xs_a [0, 1, 2, 3, 4, 5] F dX1_plan_7 hnL rfl rfl (xk1 rfl rfl (xk1 rfl rfl (xk1 rfl rfl (xk1 rfl rfl (xk1 rfl rfl (xk2 rfl rfl xk0)))))) ?_
  refine xr_iload_n 3 F dX1_plan_9 rfl ?_
  refine xr_iconst (2 : Int32) F dX1_plan_10 rfl ?_
  refine xr_icmp_ne 26 F dX1_plan_11 rfl ?_ ?_
  · refine xr_iload 6 F dX1_plan_14 rfl ?_
    refine xr_iconst (0 : Int32) F dX1_plan_16 rfl ?_
    refine xr_sipush (1000 : Int32) F dX1_plan_17 rfl ?_
    refine xr_SI (y := yX1_inRange) (As := [.int p4, .int (0 : Int32), .int (1000 : Int32)]) F (hno _) dX1_plan_20 (fX1_inRange_m (xFG F) p4 (0 : Int32) (1000 : Int32)) (Or.inl rfl) q646 q121 (Or.inl q644) q645 (xroom hRm (Nat.le_of_ble_eq_true rfl) (Nat.le_of_ble_eq_true rfl)) ⟨by decide, by decide⟩ n_X1_inRange rfl (xcat (Nat.le_of_ble_eq_true rfl)) (fun v20 => ?_)
    refine xr_goto 35 F dX1_plan_23 rfl ?_
    exact xI.sub [1, 2, 3, 4, 5, 6] rfl (fX1_plan_p35_ok F hnL hRm hno hmn a0 p0 p1 p2 p3 p4 v20)
  · refine xr_iload 6 F dX1_plan_26 rfl ?_
    refine xr_iconst (1 : Int32) F dX1_plan_28 rfl ?_
    refine xr_ldcw F dX1_plan_29 q3211 ?_
    refine xr_SI (y := yX1_inRange) (As := [.int p4, .int (1 : Int32), .int (1000000 : Int32)]) F (hno _) dX1_plan_32 (fX1_inRange_m (xFG F) p4 (1 : Int32) (1000000 : Int32)) (Or.inl rfl) q646 q121 (Or.inl q644) q645 (xroom hRm (Nat.le_of_ble_eq_true rfl) (Nat.le_of_ble_eq_true rfl)) ⟨by decide, by decide⟩ n_X1_inRange rfl (xcat (Nat.le_of_ble_eq_true rfl)) (fun v32 => ?_)
    exact xI.sub [1, 2, 3, 4, 5, 6] rfl (fX1_plan_p35_ok F hnL hRm hno hmn a0 p0 p1 p2 p3 p4 v32)
theorem fX0_plan_m {l : Launch} {D : xD} {s0 : State} {b0 : Nat} {Γ : Nat → Option Nat} (G : xG l D s0 b0 Γ) (p0 : Option Nat) (p1 : Int32) (p2 : Int32) (p3 : Int32) (p4 : Int32) (p5 : Int32) (p6 : Option Nat) : xMeth l D s0 Γ yX0_plan (Cond.codeWith yX0_plan cX0_plan 8 (some .int) [(0, 16, 19, 25), (0, 16, 23, 13), (0, 16, 27, 101)]) (12) (266) [va_rf p0, .int p1, .int p2, .int p3, .int p4, .int p5, va_rf p6] xeI (fX0_plan p0 p1 p2 p3 p4 p5 p6) := by
  refine xMeth.of (lv0 := [(0, va_rf p0), (1, .int p1), (2, .int p2), (3, .int p3), (4, .int p4), (5, .int p5), (6, va_rf p6)]) G (by decide +kernel) (Or.inr ⟨_, rfl⟩) (by simp [lg_sl, xrf_cat, xct_i, xct_l, xct_d, xct_r]) (by simp [lv_args, xrf_cat, xct_i, xct_l, xct_d, xct_r, xrf_some]) (fun x F hnL hRm hmn ht e1 e2 e3 e4 => ?_)
  have htb : x.2.2.2.2.2.2.2.2.2.1.exceptionTable.toList = tableOf [(0, 16, 19, 25), (0, 16, 23, 13), (0, 16, 27, 101)] := ht.2 _ rfl
  unfold fX0_plan
  refine xr_aload 6 (r := p6) F dX0_plan_0 rfl ?_
  refine xr_iconst (0 : Int32) F dX0_plan_2 rfl ?_
  refine xr_aload_n 0 (r := p0) F dX0_plan_3 rfl ?_
  refine xr_iload_n 1 F dX0_plan_4 rfl ?_
  refine xr_iload_n 2 F dX0_plan_5 rfl ?_
  refine xr_iload_n 3 F dX0_plan_6 rfl ?_
  refine xr_iload 4 F dX0_plan_7 rfl ?_
  refine xr_iload 5 F dX0_plan_9 rfl ?_
  refine xr_VIT (y := yX1_plan) (As := [.int p1, .int p2, .int p3, .int p4, .int p5]) (r := p0) F dX0_plan_11 (fun z => fX1_plan_m (xFG F) z p1 p2 p3 p4 p5) (Or.inl rfl) (ci := 0) (C := RX1) (T := TX1) rfl q3280 q3277 q3278 q3279 (xroom hRm (Nat.le_of_ble_eq_true rfl) (Nat.le_of_ble_eq_true rfl)) ⟨by decide, by decide⟩ n_X1_plan rfl (xcat (Nat.le_of_ble_eq_true rfl)) (fun v11 => ?_) (fun q => ?_)
  · refine xr_i2l F dX0_plan_14 ?_
    refine xr_last (r := p6) F dX0_plan_15 ?_
    refine xr_goto 31 F dX0_plan_16 rfl ?_
    refine xr_iconst (0 : Int32) F dX0_plan_31 rfl ?_
    exact xr_iret F dX0_plan_32
  · refine xT.sel2 ?_ ?_
    · refine xT.catch F htb (tableOf []) ⟨0, 16, 19, 25⟩ (tableOf [(0, 16, 23, 13), (0, 16, 27, 101)]) rfl rfl xps0 rfl (Or.inr ⟨by decide, _, q2481, q739⟩) ?_
      refine xs_a [] F dX0_plan_19 hnL rfl rfl xk0 ?_
      refine xr_iconst (1 : Int32) F dX0_plan_21 rfl ?_
      exact xr_iret F dX0_plan_22
    refine xT.sel2 ?_ ?_
    · refine xT.catch F htb (tableOf [(0, 16, 19, 25)]) ⟨0, 16, 23, 13⟩ (tableOf [(0, 16, 27, 101)]) rfl rfl (xps1 (Or.inr ⟨by decide, _, 1, q2481, rfl⟩) xps0) rfl (Or.inr ⟨by decide, _, q1741, q226⟩) ?_
      refine xs_a [] F dX0_plan_23 hnL rfl rfl xk0 ?_
      refine xr_iconst (2 : Int32) F dX0_plan_25 rfl ?_
      exact xr_iret F dX0_plan_26
    refine xT.catch F htb (tableOf [(0, 16, 19, 25), (0, 16, 23, 13)]) ⟨0, 16, 27, 101⟩ (tableOf []) rfl rfl (xps1 (Or.inr ⟨by decide, _, 3, q2481, rfl⟩) (xps1 (Or.inr ⟨by decide, _, 2, q1741, rfl⟩) xps0)) rfl (Or.inr ⟨by decide, _, q2986, q2996⟩) ?_
    refine xs_a [] F dX0_plan_27 hnL rfl rfl xk0 ?_
    refine xr_iconst (3 : Int32) F dX0_plan_29 rfl ?_
    exact xr_iret F dX0_plan_30
theorem fX1_cancel_p18_ok {x : xC} (F : xF x RX1 cX1_cancel (some .int)) (hnL : xnL x = 4) (hRm : ∃ dc ds, x.2.2.2.1 = { frames := 11, cells := dc, slots := ds, locals := 236 }) (hno : ∀ pc, xNo x pc) (hmn : xmn x = "cancel" ∧ xmy x yX1_cancel) (l0 : Nat) (l2 : Option Nat) (s0 : Int32) : xI x xeI 18 [(0, va_rf (some l0)), (2, va_rf l2)] [.int s0] (fX1_cancel_p18 l0 l2 s0) := by
  unfold fX1_cancel_p18
  refine xr_SV (y := yX1_checkThere) (As := [.int s0]) F (hno _) dX1_cancel_18 (fX1_checkThere_m (xFG F) s0) (Or.inl rfl) q2618 q121 (Or.inl q2616) q2617 (xroom hRm (Nat.le_of_ble_eq_true rfl) (Nat.le_of_ble_eq_true rfl)) ⟨by decide, by decide⟩ n_X1_checkThere rfl (xcat (Nat.le_of_ble_eq_true rfl)) (fun _ => ?_)
  refine xr_aload_n 0 (r := (some l0)) F dX1_cancel_21 rfl ?_
  refine xr_VR (y := yX1_record) (As := []) (r := (some l0)) F (hno _) dX1_cancel_22 (fun z => fX1_record_m (xFG F) z) (Or.inl rfl) (ci := 0) (C := RX1) (T := TX1) rfl q3012 q3009 q3011 qs40 (xroom hRm (Nat.le_of_ble_eq_true rfl) (Nat.le_of_ble_eq_true rfl)) ⟨by decide, by decide⟩ n_X1_record rfl (xcat (Nat.le_of_ble_eq_true rfl)) (fun v22 => ?_)
  refine xs_a_n [1] F dX1_cancel_25 hnL rfl rfl (xk2 rfl (xrf_cat _) xk0) ?_
  refine xr_aload_n 0 (r := v22) F dX1_cancel_26 rfl ?_
  refine xr_aload_n 1 (r := l2) F dX1_cancel_27 rfl ?_
  refine xr_VV (y := yX2_drop) (As := [va_rf l2]) (r := v22) F (hno _) dX1_cancel_28 (fun z => fX2_drop_m (xFG F) z l2) (Or.inl rfl) (ci := 1) (C := RX2) (T := TX2) rfl q3126 q3329 q3124 q3125 (xroom hRm (Nat.le_of_ble_eq_true rfl) (Nat.le_of_ble_eq_true rfl)) ⟨by decide, by decide⟩ n_X2_drop rfl (xcat (Nat.le_of_ble_eq_true rfl)) (fun _ => ?_)
  refine xr_aload_n 0 (r := v22) F dX1_cancel_31 rfl ?_
  refine xr_gR (r := v22) (ref := "ReserveLedger$State") F dX1_cancel_32 (C := RX2) (T := TX2) (N := 5) rfl (by decide) (Or.inr ⟨_, q587⟩) (Or.inl rfl) (fun v32 => ?_)
  refine xr_VI (y := yJ19_size) (As := []) (r := v32) F (hno _) dX1_cancel_35 (fun z => fJ19_size_m (xFG F) z) (Or.inl rfl) (ci := 6) (C := RJ19) (T := TJ19) rfl q841 q1713 q840 q3998 (xroom hRm (Nat.le_of_ble_eq_true rfl) (Nat.le_of_ble_eq_true rfl)) ⟨by decide, by decide⟩ n_J19_size rfl (xcat (Nat.le_of_ble_eq_true rfl)) (fun v35 => ?_)
  exact xr_iret F dX1_cancel_38
theorem fX1_cancel_m {l : Launch} {D : xD} {s0 : State} {b0 : Nat} {Γ : Nat → Option Nat} (G : xG l D s0 b0 Γ) (a0 : Nat) (p0 : Int32) : xMeth l D s0 Γ yX1_cancel (Cond.code yX1_cancel cX1_cancel 4 (some .int)) (11) (236) [.ref a0, .int p0] xeI (fX1_cancel a0 p0) := by
  refine xMeth.of (lv0 := [(0, va_rf (some a0)), (1, .int p0)]) G (by decide +kernel) (Or.inl rfl) (Nat.le_of_ble_eq_true rfl) rfl (fun x F hnL hRm hmn ht e1 e2 e3 e4 => ?_)
  have hno : ∀ pc, xNo x pc := fun pc z hz => by rw [ht.1 rfl] at hz; cases hz
  unfold fX1_cancel
  refine xr_aload_n 0 (r := (some a0)) F dX1_cancel_0 rfl ?_
  refine xr_gR (r := (some a0)) (ref := "ReserveLedger") F dX1_cancel_1 (C := RX1) (T := TX1) (N := 7) rfl (by decide) (Or.inl q614) (Or.inl rfl) (fun v1 => ?_)
  refine xr_iload_n 1 F dX1_cancel_4 rfl ?_
  refine xr_VR (y := yX2_planAt) (As := [.int p0]) (r := v1) F (hno _) dX1_cancel_5 (fun z => fX2_planAt_m (xFG F) z p0) (Or.inl rfl) (ci := 1) (C := RX2) (T := TX2) rfl q2811 q2808 q2809 q2810 (xroom hRm (Nat.le_of_ble_eq_true rfl) (Nat.le_of_ble_eq_true rfl)) ⟨by decide, by decide⟩ n_X2_planAt rfl (xcat (Nat.le_of_ble_eq_true rfl)) (fun v5 => ?_)
  refine xs_a_n [0] F dX1_cancel_8 hnL rfl rfl (xk1 rfl rfl xk0) ?_
  refine xr_aload_n 0 (r := v5) F dX1_cancel_9 rfl ?_
  refine xr_ifnull 17 F dX1_cancel_10 rfl ?_ ?_
  · refine xr_iconst (0 : Int32) F dX1_cancel_17 rfl ?_
    exact xI.sub [1, 0] rfl (fX1_cancel_p18_ok F hnL hRm hno hmn a0 v5 (0 : Int32))
  · refine xr_iconst (1 : Int32) F dX1_cancel_13 rfl ?_
    refine xr_goto 18 F dX1_cancel_14 rfl ?_
    exact xI.sub [1, 0] rfl (fX1_cancel_p18_ok F hnL hRm hno hmn a0 v5 (1 : Int32))
