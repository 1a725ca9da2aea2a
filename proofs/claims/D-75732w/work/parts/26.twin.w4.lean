theorem fX3_planned_p23_ok {x : xC} (F : xF x RX3 cX3_planned (some .int)) (hnL : xnL x = 3) (hRm : ∃ dc ds, x.2.2.2.1 = { frames := 2, cells := dc, slots := ds, locals := 37 }) (hno : ∀ pc, xNo x pc) (hmn : xmn x = "planned" ∧ xmy x yX3_planned) (l0 : Nat) (l1 : Int32) (l2 : Int32) (s0 : Int32) (s1 : Nat) : xI x xeI 23 [(0, va_rf (some l0)), (1, .int l1), (2, .int l2)] [.int s0, va_rf (some s1)] (fX3_planned_p23 l0 l1 l2 s0 s1) := by
  unfold fX3_planned_p23
  refine xr_iconst (1 : Int32) F dX3_planned_23 rfl ?_
  refine xr_VI (y := yX3_throwsIf) (As := [.int s0, .int (1 : Int32)]) (r := (some s1)) F (hno _) dX3_planned_24 (fun z => fX3_throwsIf_m (xFG F) z s0 (1 : Int32)) (Or.inl rfl) (ci := 39) (C := RX3) (T := TX3) rfl q3634 q3631 q3633 qs79 (xroom hRm (Nat.le_of_ble_eq_true rfl) (Nat.le_of_ble_eq_true rfl)) ⟨by decide, by decide⟩ n_X3_throwsIf rfl (xcat (Nat.le_of_ble_eq_true rfl)) (fun v24 => ?_)
  refine xr_if_eq 32 F dX3_planned_27 rfl ?_ ?_
  · refine xr_iload_n 1 F dX3_planned_32 rfl ?_
    refine xr_i2l F dX3_planned_33 ?_
    refine xr_lconst 0 F dX3_planned_34 rfl ?_
    refine xr_aload_n 0 (r := (some l0)) F dX3_planned_35 rfl ?_
    refine xr_gR (r := (some l0)) (ref := "ReserveLedgerModel") F dX3_planned_36 (C := RX3) (T := TX3) (N := 25) rfl (by decide) (Or.inl q3395) (Or.inl rfl) (fun v36 => ?_)
    refine xr_iconst (3 : Int32) F dX3_planned_39 rfl ?_
    refine xr_iald (r := v36) F dX3_planned_40 (fun v40 => ?_)
    refine xr_iconst (1 : Int32) F dX3_planned_41 rfl ?_
    refine xr_isub F dX3_planned_42 ?_
    refine xr_i2l F dX3_planned_43 ?_
    refine xr_SI (y := yX3_in) (As := [.long l1.toInt64, .long (0 : Int64), .long ((v40 - (1 : Int32)).toInt64)]) F (hno _) dX3_planned_44 (fX3_in_m (xFG F) l1.toInt64 (0 : Int64) ((v40 - (1 : Int32)).toInt64)) (Or.inl rfl) q3544 q144 (Or.inl q3542) q3543 (xroom hRm (Nat.le_of_ble_eq_true rfl) (Nat.le_of_ble_eq_true rfl)) ⟨by decide, by decide⟩ n_X3_in rfl (xcat (Nat.le_of_ble_eq_true rfl)) (fun v44 => ?_)
    refine xr_if_eq 65 F dX3_planned_47 rfl ?_ ?_
    · refine xr_iconst (-1 : Int32) F dX3_planned_65 rfl ?_
      exact xr_iret F dX3_planned_66
    · refine xr_aload_n 0 (r := (some l0)) F dX3_planned_50 rfl ?_
      refine xr_gR (r := (some l0)) (ref := "ReserveLedgerModel") F dX3_planned_51 (C := RX3) (T := TX3) (N := 25) rfl (by decide) (Or.inl q3395) (Or.inl rfl) (fun v51 => ?_)
      refine xr_iconst (4 : Int32) F dX3_planned_54 rfl ?_
      refine xr_iconst (5 : Int32) F dX3_planned_55 rfl ?_
      refine xr_iload_n 1 F dX3_planned_56 rfl ?_
      refine xr_imul F dX3_planned_57 ?_
      refine xr_iadd F dX3_planned_58 ?_
      refine xr_iload_n 2 F dX3_planned_59 rfl ?_
      refine xr_iadd F dX3_planned_60 ?_
      refine xr_iald (r := v51) F dX3_planned_61 (fun v61 => ?_)
      refine xr_goto 66 F dX3_planned_62 rfl ?_
      exact xr_iret F dX3_planned_66
  · refine xr_iconst (0 : Int32) F dX3_planned_30 rfl ?_
    exact xr_iret F dX3_planned_31
theorem fX3_planned_m {l : Launch} {D : xD} {s0 : State} {b0 : Nat} {Γ : Nat → Option Nat} (G : xG l D s0 b0 Γ) (a0 : Nat) (p0 : Int32) (p1 : Int32) : xMeth l D s0 Γ yX3_planned (Cond.code yX3_planned cX3_planned 3 (some .int)) (2) (37) [.ref a0, .int p0, .int p1] xeI (fX3_planned a0 p0 p1) := by
  refine xMeth.of (lv0 := [(0, va_rf (some a0)), (1, .int p0), (2, .int p1)]) G (by decide +kernel) (Or.inl rfl) (Nat.le_of_ble_eq_true rfl) rfl (fun x F hnL hRm hmn ht e1 e2 e3 e4 => ?_)
  have hno : ∀ pc, xNo x pc := fun pc z hz => by rw [ht.1 rfl] at hz; cases hz
  unfold fX3_planned
  refine xr_aload_n 0 (r := (some a0)) F dX3_planned_0 rfl ?_
  refine xr_iconst (0 : Int32) F dX3_planned_1 rfl ?_
  refine xr_put (r := (some a0)) (ref := "ReserveLedgerModel") F dX3_planned_2 xk_39 (by decide) (Or.inl q3394) (Or.inl rfl) (Or.inl rfl) ⟨rfl, rfl⟩ ?_
  refine xr_aload_n 0 (r := (some a0)) F dX3_planned_5 rfl ?_
  refine xr_iload_n 2 F dX3_planned_6 rfl ?_
  refine xr_i2l F dX3_planned_7 ?_
  refine xr_lconst 0 F dX3_planned_8 rfl ?_
  refine xr_ldc2 F dX3_planned_9 q3776 ?_
  refine xr_SI (y := yX3_in) (As := [.long p1.toInt64, .long (0 : Int64), .long (4 : Int64)]) F (hno _) dX3_planned_12 (fX3_in_m (xFG F) p1.toInt64 (0 : Int64) (4 : Int64)) (Or.inl rfl) q3544 q144 (Or.inl q3542) q3543 (xroom hRm (Nat.le_of_ble_eq_true rfl) (Nat.le_of_ble_eq_true rfl)) ⟨by decide, by decide⟩ n_X3_in rfl (xcat (Nat.le_of_ble_eq_true rfl)) (fun v12 => ?_)
  refine xr_if_ne 22 F dX3_planned_15 rfl ?_ ?_
  · refine xr_iconst (1 : Int32) F dX3_planned_18 rfl ?_
    refine xr_goto 23 F dX3_planned_19 rfl ?_
    exact xI.sub [0, 1, 2] rfl (fX3_planned_p23_ok F hnL hRm hno hmn a0 p0 p1 (1 : Int32) a0)
  · refine xr_iconst (0 : Int32) F dX3_planned_22 rfl ?_
    exact xI.sub [0, 1, 2] rfl (fX3_planned_p23_ok F hnL hRm hno hmn a0 p0 p1 (0 : Int32) a0)
theorem fX3_noYears_p18_ok {x : xC} (F : xF x RX3 cX3_noYears (some .boolean)) (hnL : xnL x = 4) (hRm : ∃ dc ds, x.2.2.2.1 = { frames := 2, cells := dc, slots := ds, locals := 37 }) (hno : ∀ pc, xNo x pc) (hmn : xmn x = "noYears" ∧ xmy x yX3_noYears) (s0 : Int32) (s1 : Nat) : xI x xeI 18 [] [.int s0, va_rf (some s1)] (fX3_noYears_p18 s0 s1) := by
  unfold fX3_noYears_p18
  refine xr_iconst (2 : Int32) F dX3_noYears_18 rfl ?_
  refine xr_VI (y := yX3_throwsIf) (As := [.int s0, .int (2 : Int32)]) (r := (some s1)) F (hno _) dX3_noYears_19 (fun z => fX3_throwsIf_m (xFG F) z s0 (2 : Int32)) (Or.inl rfl) (ci := 39) (C := RX3) (T := TX3) rfl q3634 q3631 q3633 qs79 (xroom hRm (Nat.le_of_ble_eq_true rfl) (Nat.le_of_ble_eq_true rfl)) ⟨by decide, by decide⟩ n_X3_throwsIf rfl (xcat (Nat.le_of_ble_eq_true rfl)) (fun v19 => ?_)
  exact xr_nret F dX3_noYears_22
theorem fX3_noYears_m {l : Launch} {D : xD} {s0 : State} {b0 : Nat} {Γ : Nat → Option Nat} (G : xG l D s0 b0 Γ) (a0 : Nat) (p0 : Int32) (p1 : Int32) (p2 : Int32) : xMeth l D s0 Γ yX3_noYears (Cond.code yX3_noYears cX3_noYears 4 (some .boolean)) (2) (37) [.ref a0, .int p0, .int p1, .int p2] xeI (fX3_noYears a0 p0 p1 p2) := by
  refine xMeth.of (lv0 := [(0, va_rf (some a0)), (1, .int p0), (2, .int p1), (3, .int p2)]) G (by decide +kernel) (Or.inl rfl) (Nat.le_of_ble_eq_true rfl) rfl (fun x F hnL hRm hmn ht e1 e2 e3 e4 => ?_)
  have hno : ∀ pc, xNo x pc := fun pc z hz => by rw [ht.1 rfl] at hz; cases hz
  unfold fX3_noYears
  refine xr_aload_n 0 (r := (some a0)) F dX3_noYears_0 rfl ?_
  refine xr_iload_n 1 F dX3_noYears_1 rfl ?_
  refine xr_i2l F dX3_noYears_2 ?_
  refine xr_iload_n 2 F dX3_noYears_3 rfl ?_
  refine xr_i2l F dX3_noYears_4 ?_
  refine xr_iload_n 3 F dX3_noYears_5 rfl ?_
  refine xr_i2l F dX3_noYears_6 ?_
  refine xr_SI (y := yX3_in) (As := [.long p0.toInt64, .long p1.toInt64, .long p2.toInt64]) F (hno _) dX3_noYears_7 (fX3_in_m (xFG F) p0.toInt64 p1.toInt64 p2.toInt64) (Or.inl rfl) q3544 q144 (Or.inl q3542) q3543 (xroom hRm (Nat.le_of_ble_eq_true rfl) (Nat.le_of_ble_eq_true rfl)) ⟨by decide, by decide⟩ n_X3_in rfl (xcat (Nat.le_of_ble_eq_true rfl)) (fun v7 => ?_)
  refine xr_if_ne 17 F dX3_noYears_10 rfl ?_ ?_
  · refine xr_iconst (1 : Int32) F dX3_noYears_13 rfl ?_
    refine xr_goto 18 F dX3_noYears_14 rfl ?_
    exact xI.sub [] rfl (fX3_noYears_p18_ok F hnL hRm hno hmn (1 : Int32) a0)
  · refine xr_iconst (0 : Int32) F dX3_noYears_17 rfl ?_
    exact xI.sub [] rfl (fX3_noYears_p18_ok F hnL hRm hno hmn (0 : Int32) a0)
theorem fX3_losesMarks_m {l : Launch} {D : xD} {s0 : State} {b0 : Nat} {Γ : Nat → Option Nat} (G : xG l D s0 b0 Γ) (a0 : Nat) (p0 : Int32) (p1 : Int32) : xMeth l D s0 Γ yX3_losesMarks (Cond.code yX3_losesMarks cX3_losesMarks 3 none) (5) (100) [.ref a0, .int p0, .int p1] xeV (fX3_losesMarks a0 p0 p1) := by
  refine xMeth.of (lv0 := [(0, va_rf (some a0)), (1, .int p0), (2, .int p1)]) G (by decide +kernel) (Or.inl rfl) (Nat.le_of_ble_eq_true rfl) rfl (fun x F hnL hRm hmn ht e1 e2 e3 e4 => ?_)
  have hno : ∀ pc, xNo x pc := fun pc z hz => by rw [ht.1 rfl] at hz; cases hz
  unfold fX3_losesMarks
  refine xr_iload_n 2 F dX3_losesMarks_0 rfl ?_
  refine xr_if_le 32 F dX3_losesMarks_1 rfl ?_ ?_
  · exact xr_vret F dX3_losesMarks_32
  · refine xr_aload_n 0 (r := (some a0)) F dX3_losesMarks_4 rfl ?_
    refine xr_gR (r := (some a0)) (ref := "ReserveLedgerModel") F dX3_losesMarks_5 (C := RX3) (T := TX3) (N := 25) rfl (by decide) (Or.inl q3395) (Or.inl rfl) (fun v5 => ?_)
    refine xr_iload_n 1 F dX3_losesMarks_8 rfl ?_
    refine xr_iconst (4 : Int32) F dX3_losesMarks_9 rfl ?_
    refine xr_SI (y := yX3_at) (As := [.int p0, .int (4 : Int32)]) F (hno _) dX3_losesMarks_10 (fX3_at_m (xFG F) p0 (4 : Int32)) (Or.inl rfl) q3565 q144 (Or.inl q3563) q3564 (xroom hRm (Nat.le_of_ble_eq_true rfl) (Nat.le_of_ble_eq_true rfl)) ⟨by decide, by decide⟩ n_X3_at rfl (xcat (Nat.le_of_ble_eq_true rfl)) (fun v10 => ?_)
    refine xr_aload_n 0 (r := (some a0)) F dX3_losesMarks_13 rfl ?_
    refine xr_iload_n 1 F dX3_losesMarks_14 rfl ?_
    refine xr_iconst (4 : Int32) F dX3_losesMarks_15 rfl ?_
    refine xr_VI (y := yX3_of) (As := [.int p0, .int (4 : Int32)]) (r := (some a0)) F (hno _) dX3_losesMarks_16 (fun z => fX3_of_m (xFG F) z p0 (4 : Int32)) (Or.inl rfl) (ci := 39) (C := RX3) (T := TX3) rfl q3562 q3559 q3561 qs65 (xroom hRm (Nat.le_of_ble_eq_true rfl) (Nat.le_of_ble_eq_true rfl)) ⟨by decide, by decide⟩ n_X3_of rfl (xcat (Nat.le_of_ble_eq_true rfl)) (fun v16 => ?_)
    refine xr_i2l F dX3_losesMarks_19 ?_
    refine xr_aload_n 0 (r := (some a0)) F dX3_losesMarks_20 rfl ?_
    refine xr_iload_n 1 F dX3_losesMarks_21 rfl ?_
    refine xr_VI (y := yX3_totalOf) (As := [.int p0]) (r := (some a0)) F (hno _) dX3_losesMarks_22 (fun z => fX3_totalOf_m (xFG F) z p0) (Or.inl rfl) (ci := 39) (C := RX3) (T := TX3) rfl q3646 q3643 q3645 qs82 (xroom hRm (Nat.le_of_ble_eq_true rfl) (Nat.le_of_ble_eq_true rfl)) ⟨by decide, by decide⟩ n_X3_totalOf rfl (xcat (Nat.le_of_ble_eq_true rfl)) (fun v22 => ?_)
    refine xr_i2l F dX3_losesMarks_25 ?_
    refine xr_lmul F dX3_losesMarks_26 ?_
    refine xr_iload_n 2 F dX3_losesMarks_27 rfl ?_
    refine xr_i2l F dX3_losesMarks_28 ?_
    refine xr_ldiv F dX3_losesMarks_29 ?_
    refine xr_l2i F dX3_losesMarks_30 ?_
    refine xr_iast (r := v5) F dX3_losesMarks_31 ?_
    exact xr_vret F dX3_losesMarks_32
theorem fX3_ages_p199_ok {x : xC} (F : xF x RX3 cX3_ages none) (hnL : xnL x = 8) (hRm : ∃ dc ds, x.2.2.2.1 = { frames := 6, cells := dc, slots := ds, locals := 122 }) (hno : ∀ pc, xNo x pc) (hmn : xmn x = "ages" ∧ xmy x yX3_ages) (l0 : Nat) (l1 : Int32) (l5 : Int64) : xI x xeV 199 [(0, va_rf (some l0)), (1, .int l1), (5, .long l5)] [] (fX3_ages_p199 l0 l1 l5) := by
  unfold fX3_ages_p199
  refine xr_aload_n 0 (r := (some l0)) F dX3_ages_199 rfl ?_
  refine xr_gR (r := (some l0)) (ref := "ReserveLedgerModel") F dX3_ages_200 (C := RX3) (T := TX3) (N := 25) rfl (by decide) (Or.inl q3395) (Or.inl rfl) (fun v200 => ?_)
  refine xr_iload_n 1 F dX3_ages_203 rfl ?_
  refine xr_bipush (39 : Int32) F dX3_ages_204 rfl ?_
  refine xr_SI (y := yX3_at) (As := [.int l1, .int (39 : Int32)]) F (hno _) dX3_ages_206 (fX3_at_m (xFG F) l1 (39 : Int32)) (Or.inl rfl) q3565 q144 (Or.inl q3563) q3564 (xroom hRm (Nat.le_of_ble_eq_true rfl) (Nat.le_of_ble_eq_true rfl)) ⟨by decide, by decide⟩ n_X3_at rfl (xcat (Nat.le_of_ble_eq_true rfl)) (fun v206 => ?_)
  refine xr_lload 2 F dX3_ages_209 rfl ?_
  refine xr_l2i F dX3_ages_211 ?_
  refine xr_iast (r := v200) F dX3_ages_212 ?_
  refine xr_aload_n 0 (r := (some l0)) F dX3_ages_213 rfl ?_
  refine xr_gR (r := (some l0)) (ref := "ReserveLedgerModel") F dX3_ages_214 (C := RX3) (T := TX3) (N := 25) rfl (by decide) (Or.inl q3395) (Or.inl rfl) (fun v214 => ?_)
  refine xr_iload_n 1 F dX3_ages_217 rfl ?_
  refine xr_bipush (8 : Int32) F dX3_ages_218 rfl ?_
  refine xr_SI (y := yX3_at) (As := [.int l1, .int (8 : Int32)]) F (hno _) dX3_ages_220 (fX3_at_m (xFG F) l1 (8 : Int32)) (Or.inl rfl) q3565 q144 (Or.inl q3563) q3564 (xroom hRm (Nat.le_of_ble_eq_true rfl) (Nat.le_of_ble_eq_true rfl)) ⟨by decide, by decide⟩ n_X3_at rfl (xcat (Nat.le_of_ble_eq_true rfl)) (fun v220 => ?_)
  refine xr_dup2_11 F dX3_ages_223 rfl (xrf_cat _) ?_
  refine xr_iald (r := v214) F dX3_ages_224 (fun v224 => ?_)
  refine xr_lload 2 F dX3_ages_225 rfl ?_
  refine xr_l2i F dX3_ages_227 ?_
  refine xr_iadd F dX3_ages_228 ?_
  refine xr_iast (r := v214) F dX3_ages_229 ?_
  exact xr_vret F dX3_ages_230
theorem fX3_ages_p118_ok {x : xC} (F : xF x RX3 cX3_ages none) (hnL : xnL x = 8) (hRm : ∃ dc ds, x.2.2.2.1 = { frames := 6, cells := dc, slots := ds, locals := 122 }) (hno : ∀ pc, xNo x pc) (hmn : xmn x = "ages" ∧ xmy x yX3_ages) : ∀ (n : Nat) (l0 : Nat) (l1 : Int32) (l2 : Int32) (l4 : Int32) (l5 : Int64) (l7 : Int32), xI x xeV 118 [(0, va_rf (some l0)), (1, .int l1), (2, .int l2), (4, .int l4), (5, .long l5), (7, .int l7)] [] (fX3_ages_p118 n l0 l1 l2 l4 l5 l7) := by
  intro n
  induction n with
  | zero => intro l0 l1 l2 l4 l5 l7; exact xI.stuck
  | succ n ih =>
    intro l0 l1 l2 l4 l5 l7
    unfold fX3_ages_p118
    refine xr_iload 5 F dX3_ages_118 rfl ?_
    refine xr_iload_n 2 F dX3_ages_120 rfl ?_
    refine xr_icmp_gt 155 F dX3_ages_121 rfl ?_ ?_
    · refine xr_ldc2 F dX3_ages_155 q3843 ?_
      refine xr_lload 4 F dX3_ages_158 rfl ?_
      refine xr_ldc2 F dX3_ages_160 q3720 ?_
      refine xr_ldiv F dX3_ages_163 ?_
      refine xr_SJ (y := yJ12_min_2) (As := [.long (1000000 : Int64), .long (l5 / (1000 : Int64))]) F (hno _) dX3_ages_164 (fJ12_min_2_m (xFG F) (1000000 : Int64) (l5 / (1000 : Int64))) (Or.inl rfl) q2424 q135 (Or.inl q3664) q2423 (xroom hRm (Nat.le_of_ble_eq_true rfl) (Nat.le_of_ble_eq_true rfl)) ⟨by decide, by decide⟩ n_J12_min_2 rfl (xcat (Nat.le_of_ble_eq_true rfl)) (fun v164 => ?_)
      refine xs_l [0, 1, 3] F dX3_ages_167 hnL rfl rfl (xk1 rfl rfl (xk1 rfl rfl (xk2 rfl rfl xk0))) (xk21 rfl (xk21 rfl (xk21 rfl xk20))) ?_
      refine xr_aload_n 1 (r := (some l0)) F dX3_ages_169 rfl ?_
      refine xr_iload_n 2 F dX3_ages_170 rfl ?_
      refine xr_iconst (3 : Int32) F dX3_ages_171 rfl ?_
      refine xr_VI (y := yX3_of) (As := [.int l1, .int (3 : Int32)]) (r := (some l0)) F (hno _) dX3_ages_172 (fun z => fX3_of_m (xFG F) z l1 (3 : Int32)) (Or.inl rfl) (ci := 39) (C := RX3) (T := TX3) rfl q3562 q3559 q3561 qs65 (xroom hRm (Nat.le_of_ble_eq_true rfl) (Nat.le_of_ble_eq_true rfl)) ⟨by decide, by decide⟩ n_X3_of rfl (xcat (Nat.le_of_ble_eq_true rfl)) (fun v172 => ?_)
      refine xr_if_le 199 F dX3_ages_175 rfl ?_ ?_
      · exact xI.sub [1, 2, 0] rfl (fX3_ages_p199_ok F hnL hRm hno hmn l0 l1 v164)
      · refine xr_lload 0 F dX3_ages_178 rfl ?_
        refine xr_iconst (0 : Int32) F dX3_ages_180 rfl ?_
        refine xr_aload_n 1 (r := (some l0)) F dX3_ages_181 rfl ?_
        refine xr_iload_n 2 F dX3_ages_182 rfl ?_
        refine xr_iconst (3 : Int32) F dX3_ages_183 rfl ?_
        refine xr_VI (y := yX3_of) (As := [.int l1, .int (3 : Int32)]) (r := (some l0)) F (hno _) dX3_ages_184 (fun z => fX3_of_m (xFG F) z l1 (3 : Int32)) (Or.inl rfl) (ci := 39) (C := RX3) (T := TX3) rfl q3562 q3559 q3561 qs65 (xroom hRm (Nat.le_of_ble_eq_true rfl) (Nat.le_of_ble_eq_true rfl)) ⟨by decide, by decide⟩ n_X3_of rfl (xcat (Nat.le_of_ble_eq_true rfl)) (fun v184 => ?_)
        refine xr_iload 3 F dX3_ages_187 rfl ?_
        refine xr_isub F dX3_ages_189 ?_
        refine xr_SI (y := yJ12_max) (As := [.int (0 : Int32), .int (v184 - l4)]) F (hno _) dX3_ages_190 (fJ12_max_m (xFG F) (0 : Int32) (v184 - l4)) (Or.inl rfl) q327 q135 (Or.inl q3694) q326 (xroom hRm (Nat.le_of_ble_eq_true rfl) (Nat.le_of_ble_eq_true rfl)) ⟨by decide, by decide⟩ n_J12_max rfl (xcat (Nat.le_of_ble_eq_true rfl)) (fun v190 => ?_)
        refine xr_i2l F dX3_ages_193 ?_
        refine xr_SJ (y := yJ12_min_2) (As := [.long v164, .long v190.toInt64]) F (hno _) dX3_ages_194 (fJ12_min_2_m (xFG F) v164 v190.toInt64) (Or.inl rfl) q2424 q135 (Or.inl q3664) q2423 (xroom hRm (Nat.le_of_ble_eq_true rfl) (Nat.le_of_ble_eq_true rfl)) ⟨by decide, by decide⟩ n_J12_min_2 rfl (xcat (Nat.le_of_ble_eq_true rfl)) (fun v194 => ?_)
        refine xs_l [1, 2] F dX3_ages_197 hnL rfl rfl (xk1 rfl rfl (xk1 rfl rfl xk0)) (xk21 rfl (xk21 rfl xk20)) ?_
        exact xI.sub [1, 2, 0] rfl (fX3_ages_p199_ok F hnL hRm hno hmn l0 l1 v194)
    · refine xr_lload 4 F dX3_ages_124 rfl ?_
      refine xr_aload_n 0 (r := (some l0)) F dX3_ages_126 rfl ?_
      refine xr_iload_n 1 F dX3_ages_127 rfl ?_
      refine xr_iload 5 F dX3_ages_128 rfl ?_
      refine xr_VI (y := yX3_cohortOf) (As := [.int l1, .int l7]) (r := (some l0)) F (hno _) dX3_ages_130 (fun z => fX3_cohortOf_m (xFG F) z l1 l7) (Or.inl rfl) (ci := 39) (C := RX3) (T := TX3) rfl q3650 q3647 q3649 qs83 (xroom hRm (Nat.le_of_ble_eq_true rfl) (Nat.le_of_ble_eq_true rfl)) ⟨by decide, by decide⟩ n_X3_cohortOf rfl (xcat (Nat.le_of_ble_eq_true rfl)) (fun v130 => ?_)
      refine xr_i2l F dX3_ages_133 ?_
      refine xr_aload_n 0 (r := (some l0)) F dX3_ages_134 rfl ?_
      refine xr_iload_n 1 F dX3_ages_135 rfl ?_
      refine xr_bipush (26 : Int32) F dX3_ages_136 rfl ?_
      refine xr_iload 5 F dX3_ages_138 rfl ?_
      refine xr_iadd F dX3_ages_140 ?_
      refine xr_VI (y := yX3_of) (As := [.int l1, .int ((26 : Int32) + l7)]) (r := (some l0)) F (hno _) dX3_ages_141 (fun z => fX3_of_m (xFG F) z l1 ((26 : Int32) + l7)) (Or.inl rfl) (ci := 39) (C := RX3) (T := TX3) rfl q3562 q3559 q3561 qs65 (xroom hRm (Nat.le_of_ble_eq_true rfl) (Nat.le_of_ble_eq_true rfl)) ⟨by decide, by decide⟩ n_X3_of rfl (xcat (Nat.le_of_ble_eq_true rfl)) (fun v141 => ?_)
      refine xr_i2l F dX3_ages_144 ?_
      refine xr_lmul F dX3_ages_145 ?_
      refine xr_ladd F dX3_ages_146 ?_
      refine xr_letJ (fun x5_147 => ?_)
      refine xs_l [0, 1, 2, 3, 5] F dX3_ages_147 hnL rfl rfl (xk1 rfl rfl (xk1 rfl rfl (xk1 rfl rfl (xk2 rfl rfl (xk1 rfl rfl xk0))))) (xk21 rfl (xk21 rfl (xk21 rfl (xk21 rfl (xk21 rfl xk20))))) ?_
      refine xs_inc [5, 0, 1, 2, 3, 4] F dX3_ages_149 rfl hnL rfl rfl (xk1 rfl rfl (xk1 rfl rfl (xk1 rfl rfl (xk1 rfl rfl (xk1 rfl rfl xk0))))) (fun x7_149 => ?_)
      refine xr_goto 118 F dX3_ages_152 rfl ?_
      exact xI.sub [2, 3, 4, 5, 1, 0] rfl (ih l0 l1 l2 l4 x5_147 x7_149)
theorem fX3_ages_p15_ok {x : xC} (F : xF x RX3 cX3_ages none) (hnL : xnL x = 8) (hRm : ∃ dc ds, x.2.2.2.1 = { frames := 6, cells := dc, slots := ds, locals := 122 }) (hno : ∀ pc, xNo x pc) (hmn : xmn x = "ages" ∧ xmy x yX3_ages) : ∀ (n : Nat) (l0 : Nat) (l1 : Int32) (l2 : Int32) (l3 : Int32) (l4 : Int32), xI x xeV 15 [(0, va_rf (some l0)), (1, .int l1), (2, .int l2), (3, .int l3), (4, .int l4)] [] (fX3_ages_p15 n l0 l1 l2 l3 l4) := by
  intro n
  induction n with
  | zero => intro l0 l1 l2 l3 l4; exact xI.stuck
  | succ n ih =>
    intro l0 l1 l2 l3 l4
    unfold fX3_ages_p15
    refine xr_iload 4 F dX3_ages_15 rfl ?_
    refine xr_if_le 69 F dX3_ages_17 rfl ?_ ?_
    · refine xr_aload_n 0 (r := (some l0)) F dX3_ages_69 rfl ?_
      refine xr_gR (r := (some l0)) (ref := "ReserveLedgerModel") F dX3_ages_70 (C := RX3) (T := TX3) (N := 25) rfl (by decide) (Or.inl q3395) (Or.inl rfl) (fun v70 => ?_)
      refine xr_iload_n 1 F dX3_ages_73 rfl ?_
      refine xr_bipush (39 : Int32) F dX3_ages_74 rfl ?_
      refine xr_SI (y := yX3_at) (As := [.int l1, .int (39 : Int32)]) F (hno _) dX3_ages_76 (fX3_at_m (xFG F) l1 (39 : Int32)) (Or.inl rfl) q3565 q144 (Or.inl q3563) q3564 (xroom hRm (Nat.le_of_ble_eq_true rfl) (Nat.le_of_ble_eq_true rfl)) ⟨by decide, by decide⟩ n_X3_at rfl (xcat (Nat.le_of_ble_eq_true rfl)) (fun v76 => ?_)
      refine xr_iconst (0 : Int32) F dX3_ages_79 rfl ?_
      refine xr_iast (r := v70) F dX3_ages_80 ?_
      refine xr_aload_n 0 (r := (some l0)) F dX3_ages_81 rfl ?_
      refine xr_iload_n 1 F dX3_ages_82 rfl ?_
      refine xr_VI (y := yX3_totalOf) (As := [.int l1]) (r := (some l0)) F (hno _) dX3_ages_83 (fun z => fX3_totalOf_m (xFG F) z l1) (Or.inl rfl) (ci := 39) (C := RX3) (T := TX3) rfl q3646 q3643 q3645 qs82 (xroom hRm (Nat.le_of_ble_eq_true rfl) (Nat.le_of_ble_eq_true rfl)) ⟨by decide, by decide⟩ n_X3_totalOf rfl (xcat (Nat.le_of_ble_eq_true rfl)) (fun v83 => ?_)
      refine xs_i [0, 1, 2, 3] F dX3_ages_86 hnL rfl rfl (xk1 rfl rfl (xk1 rfl rfl (xk1 rfl rfl (xk2 rfl rfl xk0)))) ?_
      refine xr_aload_n 1 (r := (some l0)) F dX3_ages_88 rfl ?_
      refine xr_gR (r := (some l0)) (ref := "ReserveLedgerModel") F dX3_ages_89 (C := RX3) (T := TX3) (N := 25) rfl (by decide) (Or.inl q3395) (Or.inl rfl) (fun v89 => ?_)
      refine xr_iload_n 2 F dX3_ages_92 rfl ?_
      refine xr_bipush (9 : Int32) F dX3_ages_93 rfl ?_
      refine xr_SI (y := yX3_at) (As := [.int l1, .int (9 : Int32)]) F (hno _) dX3_ages_95 (fX3_at_m (xFG F) l1 (9 : Int32)) (Or.inl rfl) q3565 q144 (Or.inl q3563) q3564 (xroom hRm (Nat.le_of_ble_eq_true rfl) (Nat.le_of_ble_eq_true rfl)) ⟨by decide, by decide⟩ n_X3_at rfl (xcat (Nat.le_of_ble_eq_true rfl)) (fun v95 => ?_)
      refine xr_dup2_11 F dX3_ages_98 rfl (xrf_cat _) ?_
      refine xr_iald (r := v89) F dX3_ages_99 (fun v99 => ?_)
      refine xr_iload_n 4 F dX3_ages_100 rfl ?_
      refine xr_iload 0 F dX3_ages_101 rfl ?_
      refine xr_isub F dX3_ages_103 ?_
      refine xr_iadd F dX3_ages_104 ?_
      refine xr_iast (r := v89) F dX3_ages_105 ?_
      refine xr_aload_n 1 (r := (some l0)) F dX3_ages_106 rfl ?_
      refine xr_iload_n 2 F dX3_ages_107 rfl ?_
      refine xr_iload_n 4 F dX3_ages_108 rfl ?_
      refine xr_VV (y := yX3_losesMarks) (As := [.int l1, .int l3]) (r := (some l0)) F (hno _) dX3_ages_109 (fun z => fX3_losesMarks_m (xFG F) z l1 l3) (Or.inl rfl) (ci := 39) (C := RX3) (T := TX3) rfl q3842 q3839 q3841 qs104 (xroom hRm (Nat.le_of_ble_eq_true rfl) (Nat.le_of_ble_eq_true rfl)) ⟨by decide, by decide⟩ n_X3_losesMarks rfl (xcat (Nat.le_of_ble_eq_true rfl)) (fun _ => ?_)
      refine xr_lconst 0 F dX3_ages_112 rfl ?_
      refine xr_letJ (fun x5_113 => ?_)
      refine xs_l [0, 1, 2, 3] F dX3_ages_113 hnL rfl rfl (xk2 rfl rfl (xk1 rfl rfl (xk1 rfl rfl (xk1 rfl rfl xk0)))) (xk21 rfl (xk21 rfl (xk21 rfl (xk21 rfl xk20)))) ?_
      refine xr_iconst (1 : Int32) F dX3_ages_115 rfl ?_
      refine xr_letI (fun x7_116 => ?_)
      refine xs_i [0, 1, 2, 3, 4] F dX3_ages_116 hnL rfl rfl (xk1 rfl rfl (xk1 rfl rfl (xk1 rfl rfl (xk1 rfl rfl (xk1 rfl rfl xk0))))) ?_
      exact xI.sub [3, 4, 5, 2, 1, 0] rfl (fX3_ages_p118_ok F hnL hRm hno hmn xFU l0 l1 l2 v83 x5_113 x7_116)
    · refine xr_aload_n 0 (r := (some l0)) F dX3_ages_20 rfl ?_
      refine xr_gR (r := (some l0)) (ref := "ReserveLedgerModel") F dX3_ages_21 (C := RX3) (T := TX3) (N := 25) rfl (by decide) (Or.inl q3395) (Or.inl rfl) (fun v21 => ?_)
      refine xr_iload_n 1 F dX3_ages_24 rfl ?_
      refine xr_bipush (39 : Int32) F dX3_ages_25 rfl ?_
      refine xr_iload 4 F dX3_ages_27 rfl ?_
      refine xr_iadd F dX3_ages_29 ?_
      refine xr_SI (y := yX3_at) (As := [.int l1, .int ((39 : Int32) + l4)]) F (hno _) dX3_ages_30 (fX3_at_m (xFG F) l1 ((39 : Int32) + l4)) (Or.inl rfl) q3565 q144 (Or.inl q3563) q3564 (xroom hRm (Nat.le_of_ble_eq_true rfl) (Nat.le_of_ble_eq_true rfl)) ⟨by decide, by decide⟩ n_X3_at rfl (xcat (Nat.le_of_ble_eq_true rfl)) (fun v30 => ?_)
      refine xr_aload_n 0 (r := (some l0)) F dX3_ages_33 rfl ?_
      refine xr_iload_n 1 F dX3_ages_34 rfl ?_
      refine xr_iload 4 F dX3_ages_35 rfl ?_
      refine xr_iconst (1 : Int32) F dX3_ages_37 rfl ?_
      refine xr_isub F dX3_ages_38 ?_
      refine xr_VI (y := yX3_cohortOf) (As := [.int l1, .int (l4 - (1 : Int32))]) (r := (some l0)) F (hno _) dX3_ages_39 (fun z => fX3_cohortOf_m (xFG F) z l1 (l4 - (1 : Int32))) (Or.inl rfl) (ci := 39) (C := RX3) (T := TX3) rfl q3650 q3647 q3649 qs83 (xroom hRm (Nat.le_of_ble_eq_true rfl) (Nat.le_of_ble_eq_true rfl)) ⟨by decide, by decide⟩ n_X3_cohortOf rfl (xcat (Nat.le_of_ble_eq_true rfl)) (fun v39 => ?_)
      refine xr_i2l F dX3_ages_42 ?_
      refine xr_aload_n 0 (r := (some l0)) F dX3_ages_43 rfl ?_
      refine xr_iload_n 1 F dX3_ages_44 rfl ?_
      refine xr_bipush (13 : Int32) F dX3_ages_45 rfl ?_
      refine xr_iload 4 F dX3_ages_47 rfl ?_
      refine xr_iadd F dX3_ages_49 ?_
      refine xr_iconst (1 : Int32) F dX3_ages_50 rfl ?_
      refine xr_isub F dX3_ages_51 ?_
      refine xr_VI (y := yX3_of) (As := [.int l1, .int (((13 : Int32) + l4) - (1 : Int32))]) (r := (some l0)) F (hno _) dX3_ages_52 (fun z => fX3_of_m (xFG F) z l1 (((13 : Int32) + l4) - (1 : Int32))) (Or.inl rfl) (ci := 39) (C := RX3) (T := TX3) rfl q3562 q3559 q3561 qs65 (xroom hRm (Nat.le_of_ble_eq_true rfl) (Nat.le_of_ble_eq_true rfl)) ⟨by decide, by decide⟩ n_X3_of rfl (xcat (Nat.le_of_ble_eq_true rfl)) (fun v52 => ?_)
      refine xr_i2l F dX3_ages_55 ?_
      refine xr_lmul F dX3_ages_56 ?_
      refine xr_ldc2 F dX3_ages_57 q3720 ?_
      refine xr_ldiv F dX3_ages_60 ?_
      refine xr_l2i F dX3_ages_61 ?_
      refine xr_iast (r := v21) F dX3_ages_62 ?_
      refine xs_inc [4, 0, 1, 2, 3] F dX3_ages_63 rfl hnL rfl rfl (xk1 rfl rfl (xk1 rfl rfl (xk1 rfl rfl (xk2 rfl rfl xk0)))) (fun x4_63 => ?_)
      refine xr_goto 15 F dX3_ages_66 rfl ?_
      exact xI.sub [1, 2, 3, 4, 0] rfl (ih l0 l1 l2 l3 x4_63)
theorem fX3_ages_m {l : Launch} {D : xD} {s0 : State} {b0 : Nat} {Γ : Nat → Option Nat} (G : xG l D s0 b0 Γ) (a0 : Nat) (p0 : Int32) : xMeth l D s0 Γ yX3_ages (Cond.code yX3_ages cX3_ages 8 none) (6) (122) [.ref a0, .int p0] xeV (fX3_ages a0 p0) := by
  refine xMeth.of (lv0 := [(0, va_rf (some a0)), (1, .int p0)]) G (by decide +kernel) (Or.inl rfl) (Nat.le_of_ble_eq_true rfl) rfl (fun x F hnL hRm hmn ht e1 e2 e3 e4 => ?_)
  have hno : ∀ pc, xNo x pc := fun pc z hz => by rw [ht.1 rfl] at hz; cases hz
  unfold fX3_ages
  refine xr_aload_n 0 (r := (some a0)) F dX3_ages_0 rfl ?_
  refine xr_iload_n 1 F dX3_ages_1 rfl ?_
  refine xr_VI (y := yX3_oldest) (As := [.int p0]) (r := (some a0)) F (hno _) dX3_ages_2 (fun z => fX3_oldest_m (xFG F) z p0) (Or.inl rfl) (ci := 39) (C := RX3) (T := TX3) rfl q3583 q3580 q3582 qs68 (xroom hRm (Nat.le_of_ble_eq_true rfl) (Nat.le_of_ble_eq_true rfl)) ⟨by decide, by decide⟩ n_X3_oldest rfl (xcat (Nat.le_of_ble_eq_true rfl)) (fun v2 => ?_)
  refine xs_i_n [0, 1] F dX3_ages_5 hnL rfl rfl (xk1 rfl rfl (xk2 rfl rfl xk0)) ?_
  refine xr_aload_n 1 (r := (some a0)) F dX3_ages_6 rfl ?_
  refine xr_iload_n 2 F dX3_ages_7 rfl ?_
  refine xr_VI (y := yX3_totalOf) (As := [.int p0]) (r := (some a0)) F (hno _) dX3_ages_8 (fun z => fX3_totalOf_m (xFG F) z p0) (Or.inl rfl) (ci := 39) (C := RX3) (T := TX3) rfl q3646 q3643 q3645 qs82 (xroom hRm (Nat.le_of_ble_eq_true rfl) (Nat.le_of_ble_eq_true rfl)) ⟨by decide, by decide⟩ n_X3_totalOf rfl (xcat (Nat.le_of_ble_eq_true rfl)) (fun v8 => ?_)
  refine xs_i_n [0, 1, 2] F dX3_ages_11 hnL rfl rfl (xk2 rfl rfl (xk1 rfl rfl (xk1 rfl rfl xk0))) ?_
  refine xr_iload_n 1 F dX3_ages_12 rfl ?_
  refine xs_i [0, 1, 2, 3] F dX3_ages_13 hnL rfl rfl (xk2 rfl rfl (xk1 rfl rfl (xk1 rfl rfl (xk1 rfl rfl xk0)))) ?_
  exact xI.sub [3, 4, 2, 1, 0] rfl (fX3_ages_p15_ok F hnL hRm hno hmn xFU a0 p0 v2 v8 v2)
theorem fX3_goes_p2_ok {x : xC} (F : xF x RX3 cX3_goes none) (hnL : xnL x = 4) (hRm : ∃ dc ds, x.2.2.2.1 = { frames := 7, cells := dc, slots := ds, locals := 149 }) (hno : ∀ pc, xNo x pc) (hmn : xmn x = "goes" ∧ xmy x yX3_goes) : ∀ (n : Nat) (l0 : Nat) (l1 : Int32) (l2 : Int32) (l3 : Int32), xI x xeV 2 [(0, va_rf (some l0)), (1, .int l1), (2, .int l2), (3, .int l3)] [] (fX3_goes_p2 n l0 l1 l2 l3) := by
  intro n
  induction n with
  | zero => intro l0 l1 l2 l3; exact xI.stuck
  | succ n ih =>
    intro l0 l1 l2 l3
    unfold fX3_goes_p2
    refine xr_iload_n 3 F dX3_goes_2 rfl ?_
    refine xr_iload_n 2 F dX3_goes_3 rfl ?_
    refine xr_icmp_ge 18 F dX3_goes_4 rfl ?_ ?_
    · exact xr_vret F dX3_goes_18
    · refine xr_aload_n 0 (r := (some l0)) F dX3_goes_7 rfl ?_
      refine xr_iload_n 1 F dX3_goes_8 rfl ?_
      refine xr_VV (y := yX3_ages) (As := [.int l1]) (r := (some l0)) F (hno _) dX3_goes_9 (fun z => fX3_ages_m (xFG F) z l1) (Or.inl rfl) (ci := 39) (C := RX3) (T := TX3) rfl q3838 q3835 q3837 qs103 (xroom hRm (Nat.le_of_ble_eq_true rfl) (Nat.le_of_ble_eq_true rfl)) ⟨by decide, by decide⟩ n_X3_ages rfl (xcat (Nat.le_of_ble_eq_true rfl)) (fun _ => ?_)
      refine xs_inc [3, 0, 1, 2] F dX3_goes_12 rfl hnL rfl rfl (xk1 rfl rfl (xk1 rfl rfl (xk2 rfl rfl xk0))) (fun x3_12 => ?_)
      refine xr_goto 2 F dX3_goes_15 rfl ?_
      exact xI.sub [1, 2, 3, 0] rfl (ih l0 l1 l2 x3_12)
theorem fX3_goes_m {l : Launch} {D : xD} {s0 : State} {b0 : Nat} {Γ : Nat → Option Nat} (G : xG l D s0 b0 Γ) (a0 : Nat) (p0 : Int32) (p1 : Int32) : xMeth l D s0 Γ yX3_goes (Cond.code yX3_goes cX3_goes 4 none) (7) (149) [.ref a0, .int p0, .int p1] xeV (fX3_goes a0 p0 p1) := by
  refine xMeth.of (lv0 := [(0, va_rf (some a0)), (1, .int p0), (2, .int p1)]) G (by decide +kernel) (Or.inl rfl) (Nat.le_of_ble_eq_true rfl) rfl (fun x F hnL hRm hmn ht e1 e2 e3 e4 => ?_)
  have hno : ∀ pc, xNo x pc := fun pc z hz => by rw [ht.1 rfl] at hz; cases hz
  unfold fX3_goes
  refine xr_iconst (0 : Int32) F dX3_goes_0 rfl ?_
  refine xr_letI (fun x3_1 => ?_)
  refine xs_i_n [0, 1, 2] F dX3_goes_1 hnL rfl rfl (xk1 rfl rfl (xk1 rfl rfl (xk2 rfl rfl xk0))) ?_
  exact xI.sub [1, 2, 3, 0] rfl (fX3_goes_p2_ok F hnL hRm hno hmn xFU a0 p0 p1 x3_1)
theorem fX3_totalBehind_m {l : Launch} {D : xD} {s0 : State} {b0 : Nat} {Γ : Nat → Option Nat} (G : xG l D s0 b0 Γ) (a0 : Nat) (p0 : Int32) (p1 : Int32) : xMeth l D s0 Γ yX3_totalBehind (Cond.code yX3_totalBehind cX3_totalBehind 4 (some .int)) (8) (172) [.ref a0, .int p0, .int p1] xeI (fX3_totalBehind a0 p0 p1) := by
  refine xMeth.of (lv0 := [(0, va_rf (some a0)), (1, .int p0), (2, .int p1)]) G (by decide +kernel) (Or.inl rfl) (Nat.le_of_ble_eq_true rfl) rfl (fun x F hnL hRm hmn ht e1 e2 e3 e4 => ?_)
  have hno : ∀ pc, xNo x pc := fun pc z hz => by rw [ht.1 rfl] at hz; cases hz
  unfold fX3_totalBehind
  refine xr_aload_n 0 (r := (some a0)) F dX3_totalBehind_0 rfl ?_
  refine xr_VV (y := yX3_putsAside) (As := []) (r := (some a0)) F (hno _) dX3_totalBehind_1 (fun z => fX3_putsAside_m (xFG F) z) (Or.inl rfl) (ci := 39) (C := RX3) (T := TX3) rfl q3506 q3503 q3505 qs53 (xroom hRm (Nat.le_of_ble_eq_true rfl) (Nat.le_of_ble_eq_true rfl)) ⟨by decide, by decide⟩ n_X3_putsAside rfl (xcat (Nat.le_of_ble_eq_true rfl)) (fun _ => ?_)
  refine xr_aload_n 0 (r := (some a0)) F dX3_totalBehind_4 rfl ?_
  refine xr_iload_n 1 F dX3_totalBehind_5 rfl ?_
  refine xr_iload_n 2 F dX3_totalBehind_6 rfl ?_
  refine xr_VV (y := yX3_goes) (As := [.int p0, .int p1]) (r := (some a0)) F (hno _) dX3_totalBehind_7 (fun z => fX3_goes_m (xFG F) z p0 p1) (Or.inl rfl) (ci := 39) (C := RX3) (T := TX3) rfl q3834 q3831 q3833 qs102 (xroom hRm (Nat.le_of_ble_eq_true rfl) (Nat.le_of_ble_eq_true rfl)) ⟨by decide, by decide⟩ n_X3_goes rfl (xcat (Nat.le_of_ble_eq_true rfl)) (fun _ => ?_)
  refine xr_aload_n 0 (r := (some a0)) F dX3_totalBehind_10 rfl ?_
  refine xr_iload_n 1 F dX3_totalBehind_11 rfl ?_
  refine xr_VI (y := yX3_totalOf) (As := [.int p0]) (r := (some a0)) F (hno _) dX3_totalBehind_12 (fun z => fX3_totalOf_m (xFG F) z p0) (Or.inl rfl) (ci := 39) (C := RX3) (T := TX3) rfl q3646 q3643 q3645 qs82 (xroom hRm (Nat.le_of_ble_eq_true rfl) (Nat.le_of_ble_eq_true rfl)) ⟨by decide, by decide⟩ n_X3_totalOf rfl (xcat (Nat.le_of_ble_eq_true rfl)) (fun v12 => ?_)
  refine xs_i_n [0] F dX3_totalBehind_15 hnL rfl rfl (xk1 rfl rfl xk0) ?_
  refine xr_aload_n 1 (r := (some a0)) F dX3_totalBehind_16 rfl ?_
  refine xr_VV (y := yX3_takesBack) (As := []) (r := (some a0)) F (hno _) dX3_totalBehind_17 (fun z => fX3_takesBack_m (xFG F) z) (Or.inl rfl) (ci := 39) (C := RX3) (T := TX3) rfl q3638 q3635 q3637 qs80 (xroom hRm (Nat.le_of_ble_eq_true rfl) (Nat.le_of_ble_eq_true rfl)) ⟨by decide, by decide⟩ n_X3_takesBack rfl (xcat (Nat.le_of_ble_eq_true rfl)) (fun _ => ?_)
  refine xr_iload_n 0 F dX3_totalBehind_20 rfl ?_
  exact xr_iret F dX3_totalBehind_21
theorem fX3_totalIn_p24_ok {x : xC} (F : xF x RX3 cX3_totalIn (some .int)) (hnL : xnL x = 3) (hRm : ∃ dc ds, x.2.2.2.1 = { frames := 9, cells := dc, slots := ds, locals := 195 }) (hno : ∀ pc, xNo x pc) (hmn : xmn x = "totalIn" ∧ xmy x yX3_totalIn)  : xI x xeI 24 [] [] (fX3_totalIn_p24 ) := by
  unfold fX3_totalIn_p24
  refine xr_iconst (0 : Int32) F dX3_totalIn_24 rfl ?_
  refine xr_goto 34 F dX3_totalIn_25 rfl ?_
  exact xr_iret F dX3_totalIn_34
theorem fX3_totalIn_m {l : Launch} {D : xD} {s0 : State} {b0 : Nat} {Γ : Nat → Option Nat} (G : xG l D s0 b0 Γ) (a0 : Nat) (p0 : Int32) (p1 : Int32) : xMeth l D s0 Γ yX3_totalIn (Cond.code yX3_totalIn cX3_totalIn 3 (some .int)) (9) (195) [.ref a0, .int p0, .int p1] xeI (fX3_totalIn a0 p0 p1) := by
  refine xMeth.of (lv0 := [(0, va_rf (some a0)), (1, .int p0), (2, .int p1)]) G (by decide +kernel) (Or.inl rfl) (Nat.le_of_ble_eq_true rfl) rfl (fun x F hnL hRm hmn ht e1 e2 e3 e4 => ?_)
  have hno : ∀ pc, xNo x pc := fun pc z hz => by rw [ht.1 rfl] at hz; cases hz
  unfold fX3_totalIn
  refine xr_aload_n 0 (r := (some a0)) F dX3_totalIn_0 rfl ?_
  refine xr_iconst (0 : Int32) F dX3_totalIn_1 rfl ?_
  refine xr_put (r := (some a0)) (ref := "ReserveLedgerModel") F dX3_totalIn_2 xk_39 (by decide) (Or.inl q3394) (Or.inl rfl) (Or.inl rfl) ⟨rfl, rfl⟩ ?_
  refine xr_aload_n 0 (r := (some a0)) F dX3_totalIn_5 rfl ?_
  refine xr_iload_n 1 F dX3_totalIn_6 rfl ?_
  refine xr_VI (y := yX3_noSpecies) (As := [.int p0]) (r := (some a0)) F (hno _) dX3_totalIn_7 (fun z => fX3_noSpecies_m (xFG F) z p0) (Or.inl rfl) (ci := 39) (C := RX3) (T := TX3) rfl q3688 q3685 q3687 qs87 (xroom hRm (Nat.le_of_ble_eq_true rfl) (Nat.le_of_ble_eq_true rfl)) ⟨by decide, by decide⟩ n_X3_noSpecies rfl (xcat (Nat.le_of_ble_eq_true rfl)) (fun v7 => ?_)
  refine xr_if_ne 24 F dX3_totalIn_10 rfl ?_ ?_
  · refine xr_aload_n 0 (r := (some a0)) F dX3_totalIn_13 rfl ?_
    refine xr_iload_n 2 F dX3_totalIn_14 rfl ?_
    refine xr_iconst (0 : Int32) F dX3_totalIn_15 rfl ?_
    refine xr_bipush (50 : Int32) F dX3_totalIn_16 rfl ?_
    refine xr_VI (y := yX3_noYears) (As := [.int p1, .int (0 : Int32), .int (50 : Int32)]) (r := (some a0)) F (hno _) dX3_totalIn_18 (fun z => fX3_noYears_m (xFG F) z p1 (0 : Int32) (50 : Int32)) (Or.inl rfl) (ci := 39) (C := RX3) (T := TX3) rfl q3826 q3823 q3825 qs100 (xroom hRm (Nat.le_of_ble_eq_true rfl) (Nat.le_of_ble_eq_true rfl)) ⟨by decide, by decide⟩ n_X3_noYears rfl (xcat (Nat.le_of_ble_eq_true rfl)) (fun v18 => ?_)
    refine xr_if_eq 28 F dX3_totalIn_21 rfl ?_ ?_
    · refine xr_aload_n 0 (r := (some a0)) F dX3_totalIn_28 rfl ?_
      refine xr_iload_n 1 F dX3_totalIn_29 rfl ?_
      refine xr_iload_n 2 F dX3_totalIn_30 rfl ?_
      refine xr_VI (y := yX3_totalBehind) (As := [.int p0, .int p1]) (r := (some a0)) F (hno _) dX3_totalIn_31 (fun z => fX3_totalBehind_m (xFG F) z p0 p1) (Or.inl rfl) (ci := 39) (C := RX3) (T := TX3) rfl q3830 q3827 q3829 qs101 (xroom hRm (Nat.le_of_ble_eq_true rfl) (Nat.le_of_ble_eq_true rfl)) ⟨by decide, by decide⟩ n_X3_totalBehind rfl (xcat (Nat.le_of_ble_eq_true rfl)) (fun v31 => ?_)
      exact xr_iret F dX3_totalIn_34
    · exact xI.sub [] rfl (fX3_totalIn_p24_ok F hnL hRm hno hmn)
  · exact xI.sub [] rfl (fX3_totalIn_p24_ok F hnL hRm hno hmn)
theorem fX3_share_p25_ok {x : xC} (F : xF x RX3 cX3_share (some .double)) (hnL : xnL x = 6) (hRm : ∃ dc ds, x.2.2.2.1 = { frames := 8, cells := dc, slots := ds, locals := 172 }) (hno : ∀ pc, xNo x pc) (hmn : xmn x = "share" ∧ xmy x yX3_share)  : xI x xeD 25 [] [] (fX3_share_p25 ) := by
  unfold fX3_share_p25
  refine xr_dconst0 F dX3_share_25 ?_
  exact xr_dret F dX3_share_26
theorem fX3_share_m {l : Launch} {D : xD} {s0 : State} {b0 : Nat} {Γ : Nat → Option Nat} (G : xG l D s0 b0 Γ) (a0 : Nat) (p0 : Int32) (p1 : Int32) (p2 : Int32) : xMeth l D s0 Γ yX3_share (Cond.code yX3_share cX3_share 6 (some .double)) (8) (172) [.ref a0, .int p0, .int p1, .int p2] xeD (fX3_share a0 p0 p1 p2) := by
  refine xMeth.of (lv0 := [(0, va_rf (some a0)), (1, .int p0), (2, .int p1), (3, .int p2)]) G (by decide +kernel) (Or.inl rfl) (Nat.le_of_ble_eq_true rfl) rfl (fun x F hnL hRm hmn ht e1 e2 e3 e4 => ?_)
  have hno : ∀ pc, xNo x pc := fun pc z hz => by rw [ht.1 rfl] at hz; cases hz
  unfold fX3_share
  refine xr_aload_n 0 (r := (some a0)) F dX3_share_0 rfl ?_
  refine xr_iconst (0 : Int32) F dX3_share_1 rfl ?_
  refine xr_put (r := (some a0)) (ref := "ReserveLedgerModel") F dX3_share_2 xk_39 (by decide) (Or.inl q3394) (Or.inl rfl) (Or.inl rfl) ⟨rfl, rfl⟩ ?_
  refine xr_aload_n 0 (r := (some a0)) F dX3_share_5 rfl ?_
  refine xr_iload_n 1 F dX3_share_6 rfl ?_
  refine xr_iload_n 2 F dX3_share_7 rfl ?_
  refine xr_VI (y := yX3_noAge) (As := [.int p0, .int p1]) (r := (some a0)) F (hno _) dX3_share_8 (fun z => fX3_noAge_m (xFG F) z p0 p1) (Or.inl rfl) (ci := 39) (C := RX3) (T := TX3) rfl q3702 q3699 q3701 qs89 (xroom hRm (Nat.le_of_ble_eq_true rfl) (Nat.le_of_ble_eq_true rfl)) ⟨by decide, by decide⟩ n_X3_noAge rfl (xcat (Nat.le_of_ble_eq_true rfl)) (fun v8 => ?_)
  refine xr_if_ne 25 F dX3_share_11 rfl ?_ ?_
  · refine xr_aload_n 0 (r := (some a0)) F dX3_share_14 rfl ?_
    refine xr_iload_n 3 F dX3_share_15 rfl ?_
    refine xr_iconst (0 : Int32) F dX3_share_16 rfl ?_
    refine xr_bipush (50 : Int32) F dX3_share_17 rfl ?_
    refine xr_VI (y := yX3_noYears) (As := [.int p2, .int (0 : Int32), .int (50 : Int32)]) (r := (some a0)) F (hno _) dX3_share_19 (fun z => fX3_noYears_m (xFG F) z p2 (0 : Int32) (50 : Int32)) (Or.inl rfl) (ci := 39) (C := RX3) (T := TX3) rfl q3826 q3823 q3825 qs100 (xroom hRm (Nat.le_of_ble_eq_true rfl) (Nat.le_of_ble_eq_true rfl)) ⟨by decide, by decide⟩ n_X3_noYears rfl (xcat (Nat.le_of_ble_eq_true rfl)) (fun v19 => ?_)
    refine xr_if_eq 27 F dX3_share_22 rfl ?_ ?_
    · refine xr_aload_n 0 (r := (some a0)) F dX3_share_27 rfl ?_
      refine xr_VV (y := yX3_putsAside) (As := []) (r := (some a0)) F (hno _) dX3_share_28 (fun z => fX3_putsAside_m (xFG F) z) (Or.inl rfl) (ci := 39) (C := RX3) (T := TX3) rfl q3506 q3503 q3505 qs53 (xroom hRm (Nat.le_of_ble_eq_true rfl) (Nat.le_of_ble_eq_true rfl)) ⟨by decide, by decide⟩ n_X3_putsAside rfl (xcat (Nat.le_of_ble_eq_true rfl)) (fun _ => ?_)
      refine xr_aload_n 0 (r := (some a0)) F dX3_share_31 rfl ?_
      refine xr_iload_n 1 F dX3_share_32 rfl ?_
      refine xr_iload_n 3 F dX3_share_33 rfl ?_
      refine xr_VV (y := yX3_goes) (As := [.int p0, .int p2]) (r := (some a0)) F (hno _) dX3_share_34 (fun z => fX3_goes_m (xFG F) z p0 p2) (Or.inl rfl) (ci := 39) (C := RX3) (T := TX3) rfl q3834 q3831 q3833 qs102 (xroom hRm (Nat.le_of_ble_eq_true rfl) (Nat.le_of_ble_eq_true rfl)) ⟨by decide, by decide⟩ n_X3_goes rfl (xcat (Nat.le_of_ble_eq_true rfl)) (fun _ => ?_)
      refine xr_aload_n 0 (r := (some a0)) F dX3_share_37 rfl ?_
      refine xr_iload_n 1 F dX3_share_38 rfl ?_
      refine xr_iload_n 2 F dX3_share_39 rfl ?_
      refine xr_VI (y := yX3_cohortOf) (As := [.int p0, .int p1]) (r := (some a0)) F (hno _) dX3_share_40 (fun z => fX3_cohortOf_m (xFG F) z p0 p1) (Or.inl rfl) (ci := 39) (C := RX3) (T := TX3) rfl q3650 q3647 q3649 qs83 (xroom hRm (Nat.le_of_ble_eq_true rfl) (Nat.le_of_ble_eq_true rfl)) ⟨by decide, by decide⟩ n_X3_cohortOf rfl (xcat (Nat.le_of_ble_eq_true rfl)) (fun v40 => ?_)
      refine xs_i [0, 1] F dX3_share_43 hnL rfl rfl (xk1 rfl rfl (xk1 rfl rfl xk0)) ?_
      refine xr_aload_n 1 (r := (some a0)) F dX3_share_45 rfl ?_
      refine xr_iload_n 2 F dX3_share_46 rfl ?_
      refine xr_VI (y := yX3_totalOf) (As := [.int p0]) (r := (some a0)) F (hno _) dX3_share_47 (fun z => fX3_totalOf_m (xFG F) z p0) (Or.inl rfl) (ci := 39) (C := RX3) (T := TX3) rfl q3646 q3643 q3645 qs82 (xroom hRm (Nat.le_of_ble_eq_true rfl) (Nat.le_of_ble_eq_true rfl)) ⟨by decide, by decide⟩ n_X3_totalOf rfl (xcat (Nat.le_of_ble_eq_true rfl)) (fun v47 => ?_)
      refine xs_i [0, 1] F dX3_share_50 hnL rfl rfl (xk2 rfl rfl (xk1 rfl rfl xk0)) ?_
      refine xr_aload_n 2 (r := (some a0)) F dX3_share_52 rfl ?_
      refine xr_VV (y := yX3_takesBack) (As := []) (r := (some a0)) F (hno _) dX3_share_53 (fun z => fX3_takesBack_m (xFG F) z) (Or.inl rfl) (ci := 39) (C := RX3) (T := TX3) rfl q3638 q3635 q3637 qs80 (xroom hRm (Nat.le_of_ble_eq_true rfl) (Nat.le_of_ble_eq_true rfl)) ⟨by decide, by decide⟩ n_X3_takesBack rfl (xcat (Nat.le_of_ble_eq_true rfl)) (fun _ => ?_)
      refine xr_iload 0 F dX3_share_56 rfl ?_
      refine xr_if_ne 65 F dX3_share_58 rfl ?_ ?_
      · refine xr_dconst0 F dX3_share_61 ?_
        refine xr_goto 72 F dX3_share_62 rfl ?_
        exact xr_dret F dX3_share_72
      · refine xr_iload 1 F dX3_share_65 rfl ?_
        refine xr_i2d F dX3_share_67 ?_
        refine xr_iload 0 F dX3_share_68 rfl ?_
        refine xr_i2d F dX3_share_70 ?_
        refine xr_ddiv F dX3_share_71 ?_
        exact xr_dret F dX3_share_72
    · exact xI.sub [] rfl (fX3_share_p25_ok F hnL hRm hno hmn)
  · exact xI.sub [] rfl (fX3_share_p25_ok F hnL hRm hno hmn)
theorem fX3_growth_p24_ok {x : xC} (F : xF x RX3 cX3_growth (some .double)) (hnL : xnL x = 4) (hRm : ∃ dc ds, x.2.2.2.1 = { frames := 9, cells := dc, slots := ds, locals := 195 }) (hno : ∀ pc, xNo x pc) (hmn : xmn x = "growth" ∧ xmy x yX3_growth)  : xI x xeD 24 [] [] (fX3_growth_p24 ) := by
  unfold fX3_growth_p24
  refine xr_dconst0 F dX3_growth_24 ?_
  exact xr_dret F dX3_growth_25
theorem fX3_growth_m {l : Launch} {D : xD} {s0 : State} {b0 : Nat} {Γ : Nat → Option Nat} (G : xG l D s0 b0 Γ) (a0 : Nat) (p0 : Int32) (p1 : Int32) : xMeth l D s0 Γ yX3_growth (Cond.code yX3_growth cX3_growth 4 (some .double)) (9) (195) [.ref a0, .int p0, .int p1] xeD (fX3_growth a0 p0 p1) := by
  refine xMeth.of (lv0 := [(0, va_rf (some a0)), (1, .int p0), (2, .int p1)]) G (by decide +kernel) (Or.inl rfl) (Nat.le_of_ble_eq_true rfl) rfl (fun x F hnL hRm hmn ht e1 e2 e3 e4 => ?_)
  have hno : ∀ pc, xNo x pc := fun pc z hz => by rw [ht.1 rfl] at hz; cases hz
  unfold fX3_growth
  refine xr_aload_n 0 (r := (some a0)) F dX3_growth_0 rfl ?_
  refine xr_iconst (0 : Int32) F dX3_growth_1 rfl ?_
  refine xr_put (r := (some a0)) (ref := "ReserveLedgerModel") F dX3_growth_2 xk_39 (by decide) (Or.inl q3394) (Or.inl rfl) (Or.inl rfl) ⟨rfl, rfl⟩ ?_
  refine xr_aload_n 0 (r := (some a0)) F dX3_growth_5 rfl ?_
  refine xr_iload_n 1 F dX3_growth_6 rfl ?_
  refine xr_VI (y := yX3_noSpecies) (As := [.int p0]) (r := (some a0)) F (hno _) dX3_growth_7 (fun z => fX3_noSpecies_m (xFG F) z p0) (Or.inl rfl) (ci := 39) (C := RX3) (T := TX3) rfl q3688 q3685 q3687 qs87 (xroom hRm (Nat.le_of_ble_eq_true rfl) (Nat.le_of_ble_eq_true rfl)) ⟨by decide, by decide⟩ n_X3_noSpecies rfl (xcat (Nat.le_of_ble_eq_true rfl)) (fun v7 => ?_)
  refine xr_if_ne 24 F dX3_growth_10 rfl ?_ ?_
  · refine xr_aload_n 0 (r := (some a0)) F dX3_growth_13 rfl ?_
    refine xr_iload_n 2 F dX3_growth_14 rfl ?_
    refine xr_iconst (1 : Int32) F dX3_growth_15 rfl ?_
    refine xr_bipush (50 : Int32) F dX3_growth_16 rfl ?_
    refine xr_VI (y := yX3_noYears) (As := [.int p1, .int (1 : Int32), .int (50 : Int32)]) (r := (some a0)) F (hno _) dX3_growth_18 (fun z => fX3_noYears_m (xFG F) z p1 (1 : Int32) (50 : Int32)) (Or.inl rfl) (ci := 39) (C := RX3) (T := TX3) rfl q3826 q3823 q3825 qs100 (xroom hRm (Nat.le_of_ble_eq_true rfl) (Nat.le_of_ble_eq_true rfl)) ⟨by decide, by decide⟩ n_X3_noYears rfl (xcat (Nat.le_of_ble_eq_true rfl)) (fun v18 => ?_)
    refine xr_if_eq 26 F dX3_growth_21 rfl ?_ ?_
    · refine xr_aload_n 0 (r := (some a0)) F dX3_growth_26 rfl ?_
      refine xr_iload_n 1 F dX3_growth_27 rfl ?_
      refine xr_iload_n 2 F dX3_growth_28 rfl ?_
      refine xr_iconst (1 : Int32) F dX3_growth_29 rfl ?_
      refine xr_isub F dX3_growth_30 ?_
      refine xr_VI (y := yX3_totalBehind) (As := [.int p0, .int (p1 - (1 : Int32))]) (r := (some a0)) F (hno _) dX3_growth_31 (fun z => fX3_totalBehind_m (xFG F) z p0 (p1 - (1 : Int32))) (Or.inl rfl) (ci := 39) (C := RX3) (T := TX3) rfl q3830 q3827 q3829 qs101 (xroom hRm (Nat.le_of_ble_eq_true rfl) (Nat.le_of_ble_eq_true rfl)) ⟨by decide, by decide⟩ n_X3_totalBehind rfl (xcat (Nat.le_of_ble_eq_true rfl)) (fun v31 => ?_)
      refine xs_i_n [0, 1, 2] F dX3_growth_34 hnL rfl rfl (xk1 rfl rfl (xk1 rfl rfl (xk2 rfl rfl xk0))) ?_
      refine xr_iload_n 0 F dX3_growth_35 rfl ?_
      refine xr_if_ne 43 F dX3_growth_36 rfl ?_ ?_
      · refine xr_dconst0 F dX3_growth_39 ?_
        refine xr_goto 53 F dX3_growth_40 rfl ?_
        exact xr_dret F dX3_growth_53
      · refine xr_aload_n 1 (r := (some a0)) F dX3_growth_43 rfl ?_
        refine xr_iload_n 2 F dX3_growth_44 rfl ?_
        refine xr_iload_n 3 F dX3_growth_45 rfl ?_
        refine xr_VI (y := yX3_totalBehind) (As := [.int p0, .int p1]) (r := (some a0)) F (hno _) dX3_growth_46 (fun z => fX3_totalBehind_m (xFG F) z p0 p1) (Or.inl rfl) (ci := 39) (C := RX3) (T := TX3) rfl q3830 q3827 q3829 qs101 (xroom hRm (Nat.le_of_ble_eq_true rfl) (Nat.le_of_ble_eq_true rfl)) ⟨by decide, by decide⟩ n_X3_totalBehind rfl (xcat (Nat.le_of_ble_eq_true rfl)) (fun v46 => ?_)
        refine xr_i2d F dX3_growth_49 ?_
        refine xr_iload_n 0 F dX3_growth_50 rfl ?_
        refine xr_i2d F dX3_growth_51 ?_
        refine xr_ddiv F dX3_growth_52 ?_
        exact xr_dret F dX3_growth_53
    · exact xI.sub [] rfl (fX3_growth_p24_ok F hnL hRm hno hmn)
  · exact xI.sub [] rfl (fX3_growth_p24_ok F hnL hRm hno hmn)
theorem fX3_below_p48_ok {x : xC} (F : xF x RX3 cX3_below (some .int)) (hnL : xnL x = 5) (hRm : ∃ dc ds, x.2.2.2.1 = { frames := 7, cells := dc, slots := ds, locals := 149 }) (hno : ∀ pc, xNo x pc) (hmn : xmn x = "below" ∧ xmy x yX3_below) {k24 : Nat → Int32 → Int32 → Int32 → Int32 → xM (Int32)} (hk24 : ∀ (l0 : Nat) (l1 : Int32) (l2 : Int32) (l3 : Int32) (l4 : Int32), xI x xeI 24 [(0, va_rf (some l0)), (1, .int l1), (2, .int l2), (3, .int l3), (4, .int l4)] [] (k24 l0 l1 l2 l3 l4)) (l0 : Nat) (l1 : Int32) (l2 : Int32) (l3 : Int32) (l4 : Int32) : xI x xeI 48 [(0, va_rf (some l0)), (1, .int l1), (2, .int l2), (3, .int l3), (4, .int l4)] [] (fX3_below_p48 k24 l0 l1 l2 l3 l4) := by
  unfold fX3_below_p48
  refine xr_aload_n 0 (r := (some l0)) F dX3_below_48 rfl ?_
  refine xr_iload_n 1 F dX3_below_49 rfl ?_
  refine xr_VV (y := yX3_ages) (As := [.int l1]) (r := (some l0)) F (hno _) dX3_below_50 (fun z => fX3_ages_m (xFG F) z l1) (Or.inl rfl) (ci := 39) (C := RX3) (T := TX3) rfl q3838 q3835 q3837 qs103 (xroom hRm (Nat.le_of_ble_eq_true rfl) (Nat.le_of_ble_eq_true rfl)) ⟨by decide, by decide⟩ n_X3_ages rfl (xcat (Nat.le_of_ble_eq_true rfl)) (fun _ => ?_)
  refine xs_inc [4, 0, 1, 2, 3] F dX3_below_53 rfl hnL rfl rfl (xk1 rfl rfl (xk1 rfl rfl (xk1 rfl rfl (xk2 rfl rfl xk0)))) (fun x4_53 => ?_)
  refine xr_goto 24 F dX3_below_56 rfl ?_
  exact xI.sub [1, 2, 3, 4, 0] rfl (hk24 l0 l1 l2 l3 x4_53)
theorem fX3_below_p59_ok {x : xC} (F : xF x RX3 cX3_below (some .int)) (hnL : xnL x = 5) (hRm : ∃ dc ds, x.2.2.2.1 = { frames := 7, cells := dc, slots := ds, locals := 149 }) (hno : ∀ pc, xNo x pc) (hmn : xmn x = "below" ∧ xmy x yX3_below) (l0 : Nat) (l3 : Int32) : xI x xeI 59 [(0, va_rf (some l0)), (3, .int l3)] [] (fX3_below_p59 l0 l3) := by
  unfold fX3_below_p59
  refine xr_aload_n 0 (r := (some l0)) F dX3_below_59 rfl ?_
  refine xr_VV (y := yX3_takesBack) (As := []) (r := (some l0)) F (hno _) dX3_below_60 (fun z => fX3_takesBack_m (xFG F) z) (Or.inl rfl) (ci := 39) (C := RX3) (T := TX3) rfl q3638 q3635 q3637 qs80 (xroom hRm (Nat.le_of_ble_eq_true rfl) (Nat.le_of_ble_eq_true rfl)) ⟨by decide, by decide⟩ n_X3_takesBack rfl (xcat (Nat.le_of_ble_eq_true rfl)) (fun _ => ?_)
  refine xr_iload_n 1 F dX3_below_63 rfl ?_
  exact xr_iret F dX3_below_64
theorem fX3_below_p24_ok {x : xC} (F : xF x RX3 cX3_below (some .int)) (hnL : xnL x = 5) (hRm : ∃ dc ds, x.2.2.2.1 = { frames := 7, cells := dc, slots := ds, locals := 149 }) (hno : ∀ pc, xNo x pc) (hmn : xmn x = "below" ∧ xmy x yX3_below) : ∀ (n : Nat) (l0 : Nat) (l1 : Int32) (l2 : Int32) (l3 : Int32) (l4 : Int32), xI x xeI 24 [(0, va_rf (some l0)), (1, .int l1), (2, .int l2), (3, .int l3), (4, .int l4)] [] (fX3_below_p24 n l0 l1 l2 l3 l4) := by
  intro n
  induction n with
  | zero => intro l0 l1 l2 l3 l4; exact xI.stuck
  | succ n ih =>
    intro l0 l1 l2 l3 l4
    unfold fX3_below_p24
    refine xr_iload 4 F dX3_below_24 rfl ?_
    refine xr_bipush (50 : Int32) F dX3_below_26 rfl ?_
    refine xr_icmp_gt 59 F dX3_below_28 rfl ?_ ?_
    · exact xI.sub [0, 3] rfl (fX3_below_p59_ok F hnL hRm hno hmn l0 l3)
    · refine xr_iload_n 3 F dX3_below_31 rfl ?_
      refine xr_iconst (-1 : Int32) F dX3_below_32 rfl ?_
      refine xr_icmp_ne 59 F dX3_below_33 rfl ?_ ?_
      · refine xr_aload_n 0 (r := (some l0)) F dX3_below_36 rfl ?_
        refine xr_iload_n 1 F dX3_below_37 rfl ?_
        refine xr_VI (y := yX3_totalOf) (As := [.int l1]) (r := (some l0)) F (hno _) dX3_below_38 (fun z => fX3_totalOf_m (xFG F) z l1) (Or.inl rfl) (ci := 39) (C := RX3) (T := TX3) rfl q3646 q3643 q3645 qs82 (xroom hRm (Nat.le_of_ble_eq_true rfl) (Nat.le_of_ble_eq_true rfl)) ⟨by decide, by decide⟩ n_X3_totalOf rfl (xcat (Nat.le_of_ble_eq_true rfl)) (fun v38 => ?_)
        refine xr_iload_n 2 F dX3_below_41 rfl ?_
        refine xr_icmp_ge 48 F dX3_below_42 rfl ?_ ?_
        · exact xI.sub [0, 1, 2, 3, 4] rfl (fX3_below_p48_ok F hnL hRm hno hmn ih l0 l1 l2 l3 l4)
        · refine xr_iload 4 F dX3_below_45 rfl ?_
          refine xs_i_n [0, 1, 2, 4] F dX3_below_47 hnL rfl rfl (xk1 rfl rfl (xk1 rfl rfl (xk2 rfl rfl (xk1 rfl rfl xk0)))) ?_
          exact xI.sub [1, 2, 3, 0, 4] rfl (fX3_below_p48_ok F hnL hRm hno hmn ih l0 l1 l2 l4 l4)
      · exact xI.sub [0, 3] rfl (fX3_below_p59_ok F hnL hRm hno hmn l0 l3)
theorem fX3_below_m {l : Launch} {D : xD} {s0 : State} {b0 : Nat} {Γ : Nat → Option Nat} (G : xG l D s0 b0 Γ) (a0 : Nat) (p0 : Int32) (p1 : Int32) : xMeth l D s0 Γ yX3_below (Cond.code yX3_below cX3_below 5 (some .int)) (7) (149) [.ref a0, .int p0, .int p1] xeI (fX3_below a0 p0 p1) := by
  refine xMeth.of (lv0 := [(0, va_rf (some a0)), (1, .int p0), (2, .int p1)]) G (by decide +kernel) (Or.inl rfl) (Nat.le_of_ble_eq_true rfl) rfl (fun x F hnL hRm hmn ht e1 e2 e3 e4 => ?_)
  have hno : ∀ pc, xNo x pc := fun pc z hz => by rw [ht.1 rfl] at hz; cases hz
  unfold fX3_below
  refine xr_aload_n 0 (r := (some a0)) F dX3_below_0 rfl ?_
  refine xr_iconst (0 : Int32) F dX3_below_1 rfl ?_
  refine xr_put (r := (some a0)) (ref := "ReserveLedgerModel") F dX3_below_2 xk_39 (by decide) (Or.inl q3394) (Or.inl rfl) (Or.inl rfl) ⟨rfl, rfl⟩ ?_
  refine xr_aload_n 0 (r := (some a0)) F dX3_below_5 rfl ?_
  refine xr_iload_n 1 F dX3_below_6 rfl ?_
  refine xr_VI (y := yX3_noSpecies) (As := [.int p0]) (r := (some a0)) F (hno _) dX3_below_7 (fun z => fX3_noSpecies_m (xFG F) z p0) (Or.inl rfl) (ci := 39) (C := RX3) (T := TX3) rfl q3688 q3685 q3687 qs87 (xroom hRm (Nat.le_of_ble_eq_true rfl) (Nat.le_of_ble_eq_true rfl)) ⟨by decide, by decide⟩ n_X3_noSpecies rfl (xcat (Nat.le_of_ble_eq_true rfl)) (fun v7 => ?_)
  refine xr_if_eq 15 F dX3_below_10 rfl ?_ ?_
  · refine xr_iconst (-1 : Int32) F dX3_below_15 rfl ?_
    refine xr_letI (fun x3_16 => ?_)
    refine xs_i_n [0, 1, 2] F dX3_below_16 hnL rfl rfl (xk1 rfl rfl (xk1 rfl rfl (xk2 rfl rfl xk0))) ?_
    refine xr_aload_n 1 (r := (some a0)) F dX3_below_17 rfl ?_
    refine xr_VV (y := yX3_putsAside) (As := []) (r := (some a0)) F (hno _) dX3_below_18 (fun z => fX3_putsAside_m (xFG F) z) (Or.inl rfl) (ci := 39) (C := RX3) (T := TX3) rfl q3506 q3503 q3505 qs53 (xroom hRm (Nat.le_of_ble_eq_true rfl) (Nat.le_of_ble_eq_true rfl)) ⟨by decide, by decide⟩ n_X3_putsAside rfl (xcat (Nat.le_of_ble_eq_true rfl)) (fun _ => ?_)
    refine xr_iconst (0 : Int32) F dX3_below_21 rfl ?_
    refine xr_letI (fun x4_22 => ?_)
    refine xs_i [0, 1, 2, 3] F dX3_below_22 hnL rfl rfl (xk2 rfl rfl (xk1 rfl rfl (xk1 rfl rfl (xk1 rfl rfl xk0)))) ?_
    exact xI.sub [2, 3, 4, 1, 0] rfl (fX3_below_p24_ok F hnL hRm hno hmn xFU a0 p0 p1 x3_16 x4_22)
  · refine xr_iconst (0 : Int32) F dX3_below_13 rfl ?_
    exact xr_iret F dX3_below_14
theorem fX3_takesOldest_p9_ok {x : xC} (F : xF x RX3 cX3_takesOldest (some .boolean)) (hnL : xnL x = 6) (hRm : ∃ dc ds, x.2.2.2.1 = { frames := 4, cells := dc, slots := ds, locals := 77 }) (hno : ∀ pc, xNo x pc) (hmn : xmn x = "takesOldest" ∧ xmy x yX3_takesOldest) : ∀ (n : Nat) (l0 : Nat) (l1 : Int32) (l3 : Int32) (l4 : Int32), xI x xeI 9 [(0, va_rf (some l0)), (1, .int l1), (3, .int l3), (4, .int l4)] [] (fX3_takesOldest_p9 n l0 l1 l3 l4) := by
  intro n
  induction n with
  | zero => intro l0 l1 l3 l4; exact xI.stuck
  | succ n ih =>
    intro l0 l1 l3 l4
    unfold fX3_takesOldest_p9
    refine xr_iload 3 F dX3_takesOldest_9 rfl ?_
    refine xr_aload_n 0 (r := (some l0)) F dX3_takesOldest_11 rfl ?_
    refine xr_iload_n 1 F dX3_takesOldest_12 rfl ?_
    refine xr_iconst (2 : Int32) F dX3_takesOldest_13 rfl ?_
    refine xr_VI (y := yX3_of) (As := [.int l1, .int (2 : Int32)]) (r := (some l0)) F (hno _) dX3_takesOldest_14 (fun z => fX3_of_m (xFG F) z l1 (2 : Int32)) (Or.inl rfl) (ci := 39) (C := RX3) (T := TX3) rfl q3562 q3559 q3561 qs65 (xroom hRm (Nat.le_of_ble_eq_true rfl) (Nat.le_of_ble_eq_true rfl)) ⟨by decide, by decide⟩ n_X3_of rfl (xcat (Nat.le_of_ble_eq_true rfl)) (fun v14 => ?_)
    refine xr_icmp_lt 63 F dX3_takesOldest_17 rfl ?_ ?_
    · refine xr_iload_n 2 F dX3_takesOldest_63 rfl ?_
      refine xr_if_ne 71 F dX3_takesOldest_64 rfl ?_ ?_
      · refine xr_iconst (1 : Int32) F dX3_takesOldest_67 rfl ?_
        refine xr_goto 72 F dX3_takesOldest_68 rfl ?_
        exact xr_zret F dX3_takesOldest_72 rfl
      · refine xr_iconst (0 : Int32) F dX3_takesOldest_71 rfl ?_
        exact xr_zret F dX3_takesOldest_72 rfl
    · refine xr_iload_n 2 F dX3_takesOldest_20 rfl ?_
      refine xr_aload_n 0 (r := (some l0)) F dX3_takesOldest_21 rfl ?_
      refine xr_iload_n 1 F dX3_takesOldest_22 rfl ?_
      refine xr_iload 3 F dX3_takesOldest_23 rfl ?_
      refine xr_VI (y := yX3_cohortOf) (As := [.int l1, .int l4]) (r := (some l0)) F (hno _) dX3_takesOldest_25 (fun z => fX3_cohortOf_m (xFG F) z l1 l4) (Or.inl rfl) (ci := 39) (C := RX3) (T := TX3) rfl q3650 q3647 q3649 qs83 (xroom hRm (Nat.le_of_ble_eq_true rfl) (Nat.le_of_ble_eq_true rfl)) ⟨by decide, by decide⟩ n_X3_cohortOf rfl (xcat (Nat.le_of_ble_eq_true rfl)) (fun v25 => ?_)
      refine xr_SI (y := yJ12_min) (As := [.int l3, .int v25]) F (hno _) dX3_takesOldest_28 (fJ12_min_m (xFG F) l3 v25) (Or.inl rfl) q345 q135 (Or.inl q3767) q344 (xroom hRm (Nat.le_of_ble_eq_true rfl) (Nat.le_of_ble_eq_true rfl)) ⟨by decide, by decide⟩ n_J12_min rfl (xcat (Nat.le_of_ble_eq_true rfl)) (fun v28 => ?_)
      refine xs_i [0, 1, 2, 3] F dX3_takesOldest_31 hnL rfl rfl (xk1 rfl rfl (xk1 rfl rfl (xk1 rfl rfl (xk2 rfl rfl xk0)))) ?_
      refine xr_aload_n 1 (r := (some l0)) F dX3_takesOldest_33 rfl ?_
      refine xr_gR (r := (some l0)) (ref := "ReserveLedgerModel") F dX3_takesOldest_34 (C := RX3) (T := TX3) (N := 25) rfl (by decide) (Or.inl q3395) (Or.inl rfl) (fun v34 => ?_)
      refine xr_iload_n 2 F dX3_takesOldest_37 rfl ?_
      refine xr_bipush (39 : Int32) F dX3_takesOldest_38 rfl ?_
      refine xr_iload 4 F dX3_takesOldest_40 rfl ?_
      refine xr_iadd F dX3_takesOldest_42 ?_
      refine xr_SI (y := yX3_at) (As := [.int l1, .int ((39 : Int32) + l4)]) F (hno _) dX3_takesOldest_43 (fX3_at_m (xFG F) l1 ((39 : Int32) + l4)) (Or.inl rfl) q3565 q144 (Or.inl q3563) q3564 (xroom hRm (Nat.le_of_ble_eq_true rfl) (Nat.le_of_ble_eq_true rfl)) ⟨by decide, by decide⟩ n_X3_at rfl (xcat (Nat.le_of_ble_eq_true rfl)) (fun v43 => ?_)
      refine xr_dup2_11 F dX3_takesOldest_46 rfl (xrf_cat _) ?_
      refine xr_iald (r := v34) F dX3_takesOldest_47 (fun v47 => ?_)
      refine xr_iload 0 F dX3_takesOldest_48 rfl ?_
      refine xr_isub F dX3_takesOldest_50 ?_
      refine xr_iast (r := v34) F dX3_takesOldest_51 ?_
      refine xr_iload_n 3 F dX3_takesOldest_52 rfl ?_
      refine xr_iload 0 F dX3_takesOldest_53 rfl ?_
      refine xr_isub F dX3_takesOldest_55 ?_
      refine xr_letI (fun x3_56 => ?_)
      refine xs_i_n [1, 2, 4] F dX3_takesOldest_56 hnL rfl rfl (xk1 rfl rfl (xk1 rfl rfl (xk1 rfl rfl xk0))) ?_
      refine xs_inc [3, 0, 1, 2] F dX3_takesOldest_57 rfl hnL rfl rfl (xk2 rfl rfl (xk1 rfl rfl (xk1 rfl rfl xk0))) (fun x4_57 => ?_)
      refine xr_goto 9 F dX3_takesOldest_60 rfl ?_
      exact xI.sub [2, 3, 1, 0] rfl (ih l0 l1 x3_56 x4_57)
theorem fX3_takesOldest_m {l : Launch} {D : xD} {s0 : State} {b0 : Nat} {Γ : Nat → Option Nat} (G : xG l D s0 b0 Γ) (a0 : Nat) (p0 : Int32) (p1 : Int32) : xMeth l D s0 Γ yX3_takesOldest (Cond.code yX3_takesOldest cX3_takesOldest 6 (some .boolean)) (4) (77) [.ref a0, .int p0, .int p1] xeI (fX3_takesOldest a0 p0 p1) := by
  refine xMeth.of (lv0 := [(0, va_rf (some a0)), (1, .int p0), (2, .int p1)]) G (by decide +kernel) (Or.inl rfl) (Nat.le_of_ble_eq_true rfl) rfl (fun x F hnL hRm hmn ht e1 e2 e3 e4 => ?_)
  have hno : ∀ pc, xNo x pc := fun pc z hz => by rw [ht.1 rfl] at hz; cases hz
  unfold fX3_takesOldest
  refine xr_iload_n 2 F dX3_takesOldest_0 rfl ?_
  refine xs_i_n [0, 1] F dX3_takesOldest_1 hnL rfl rfl (xk1 rfl rfl (xk1 rfl rfl xk0)) ?_
  refine xr_aload_n 1 (r := (some a0)) F dX3_takesOldest_2 rfl ?_
  refine xr_iload_n 2 F dX3_takesOldest_3 rfl ?_
  refine xr_VI (y := yX3_oldest) (As := [.int p0]) (r := (some a0)) F (hno _) dX3_takesOldest_4 (fun z => fX3_oldest_m (xFG F) z p0) (Or.inl rfl) (ci := 39) (C := RX3) (T := TX3) rfl q3583 q3580 q3582 qs68 (xroom hRm (Nat.le_of_ble_eq_true rfl) (Nat.le_of_ble_eq_true rfl)) ⟨by decide, by decide⟩ n_X3_oldest rfl (xcat (Nat.le_of_ble_eq_true rfl)) (fun v4 => ?_)
  refine xs_i [0, 1, 2] F dX3_takesOldest_7 hnL rfl rfl (xk2 rfl rfl (xk1 rfl rfl (xk1 rfl rfl xk0))) ?_
  exact xI.sub [2, 3, 1, 0] rfl (fX3_takesOldest_p9_ok F hnL hRm hno hmn xFU a0 p0 p1 v4)
theorem fX3_works_p54_ok {x : xC} (F : xF x RX3 cX3_works (some .boolean)) (hnL : xnL x = 7) (hRm : ∃ dc ds, x.2.2.2.1 = { frames := 7, cells := dc, slots := ds, locals := 149 }) (hno : ∀ pc, xNo x pc) (hmn : xmn x = "works" ∧ xmy x yX3_works) {k10 : Nat → Int32 → Int32 → Int32 → Int32 → Int32 → Int32 → xM (Int32)} (hk10 : ∀ (l0 : Nat) (l1 : Int32) (l2 : Int32) (l3 : Int32) (l4 : Int32) (l5 : Int32) (l6 : Int32), xI x xeI 10 [(0, va_rf (some l0)), (1, .int l1), (2, .int l2), (3, .int l3), (4, .int l4), (5, .int l5), (6, .int l6)] [] (k10 l0 l1 l2 l3 l4 l5 l6)) (l0 : Nat) (l1 : Int32) (l2 : Int32) (l3 : Int32) (l4 : Int32) (l6 : Int32) (s0 : Int32) : xI x xeI 54 [(0, va_rf (some l0)), (1, .int l1), (2, .int l2), (3, .int l3), (4, .int l4), (6, .int l6)] [.int s0] (fX3_works_p54 k10 l0 l1 l2 l3 l4 l6 s0) := by
  unfold fX3_works_p54
  refine xs_i [0, 1, 2, 3, 4, 5] F dX3_works_54 hnL rfl rfl (xk1 rfl rfl (xk1 rfl rfl (xk1 rfl rfl (xk1 rfl rfl (xk2 rfl rfl (xk1 rfl rfl xk0)))))) ?_
  refine xs_inc [6, 0, 1, 2, 3, 4, 5] F dX3_works_56 rfl hnL rfl rfl (xk2 rfl rfl (xk1 rfl rfl (xk1 rfl rfl (xk1 rfl rfl (xk1 rfl rfl (xk1 rfl rfl xk0)))))) (fun x6_56 => ?_)
  refine xr_goto 10 F dX3_works_59 rfl ?_
  exact xI.sub [2, 3, 4, 5, 6, 1, 0] rfl (hk10 l0 l1 l2 l3 l4 s0 x6_56)
theorem fX3_works_p53_ok {x : xC} (F : xF x RX3 cX3_works (some .boolean)) (hnL : xnL x = 7) (hRm : ∃ dc ds, x.2.2.2.1 = { frames := 7, cells := dc, slots := ds, locals := 149 }) (hno : ∀ pc, xNo x pc) (hmn : xmn x = "works" ∧ xmy x yX3_works) {k10 : Nat → Int32 → Int32 → Int32 → Int32 → Int32 → Int32 → xM (Int32)} (hk10 : ∀ (l0 : Nat) (l1 : Int32) (l2 : Int32) (l3 : Int32) (l4 : Int32) (l5 : Int32) (l6 : Int32), xI x xeI 10 [(0, va_rf (some l0)), (1, .int l1), (2, .int l2), (3, .int l3), (4, .int l4), (5, .int l5), (6, .int l6)] [] (k10 l0 l1 l2 l3 l4 l5 l6)) (l0 : Nat) (l1 : Int32) (l2 : Int32) (l3 : Int32) (l4 : Int32) (l6 : Int32) : xI x xeI 53 [(0, va_rf (some l0)), (1, .int l1), (2, .int l2), (3, .int l3), (4, .int l4), (6, .int l6)] [] (fX3_works_p53 k10 l0 l1 l2 l3 l4 l6) := by
  unfold fX3_works_p53
  refine xr_iconst (0 : Int32) F dX3_works_53 rfl ?_
  exact xI.sub [0, 1, 2, 3, 4, 5] rfl (fX3_works_p54_ok F hnL hRm hno hmn hk10 l0 l1 l2 l3 l4 l6 (0 : Int32))
theorem fX3_works_p62_ok {x : xC} (F : xF x RX3 cX3_works (some .boolean)) (hnL : xnL x = 7) (hRm : ∃ dc ds, x.2.2.2.1 = { frames := 7, cells := dc, slots := ds, locals := 149 }) (hno : ∀ pc, xNo x pc) (hmn : xmn x = "works" ∧ xmy x yX3_works) (l0 : Nat) (l5 : Int32) : xI x xeI 62 [(0, va_rf (some l0)), (5, .int l5)] [] (fX3_works_p62 l0 l5) := by
  unfold fX3_works_p62
  refine xr_aload_n 0 (r := (some l0)) F dX3_works_62 rfl ?_
  refine xr_VV (y := yX3_takesBack) (As := []) (r := (some l0)) F (hno _) dX3_works_63 (fun z => fX3_takesBack_m (xFG F) z) (Or.inl rfl) (ci := 39) (C := RX3) (T := TX3) rfl q3638 q3635 q3637 qs80 (xroom hRm (Nat.le_of_ble_eq_true rfl) (Nat.le_of_ble_eq_true rfl)) ⟨by decide, by decide⟩ n_X3_takesBack rfl (xcat (Nat.le_of_ble_eq_true rfl)) (fun _ => ?_)
  refine xr_iload 1 F dX3_works_66 rfl ?_
  exact xr_nret F dX3_works_68
theorem fX3_works_p10_ok {x : xC} (F : xF x RX3 cX3_works (some .boolean)) (hnL : xnL x = 7) (hRm : ∃ dc ds, x.2.2.2.1 = { frames := 7, cells := dc, slots := ds, locals := 149 }) (hno : ∀ pc, xNo x pc) (hmn : xmn x = "works" ∧ xmy x yX3_works) : ∀ (n : Nat) (l0 : Nat) (l1 : Int32) (l2 : Int32) (l3 : Int32) (l4 : Int32) (l5 : Int32) (l6 : Int32), xI x xeI 10 [(0, va_rf (some l0)), (1, .int l1), (2, .int l2), (3, .int l3), (4, .int l4), (5, .int l5), (6, .int l6)] [] (fX3_works_p10 n l0 l1 l2 l3 l4 l5 l6) := by
  intro n
  induction n with
  | zero => intro l0 l1 l2 l3 l4 l5 l6; exact xI.stuck
  | succ n ih =>
    intro l0 l1 l2 l3 l4 l5 l6
    unfold fX3_works_p10
    refine xr_iload 6 F dX3_works_10 rfl ?_
    refine xr_iload_n 3 F dX3_works_12 rfl ?_
    refine xr_icmp_ge 62 F dX3_works_13 rfl ?_ ?_
    · exact xI.sub [0, 5] rfl (fX3_works_p62_ok F hnL hRm hno hmn l0 l5)
    · refine xr_iload 5 F dX3_works_16 rfl ?_
      refine xr_if_eq 62 F dX3_works_18 rfl ?_ ?_
      · exact xI.sub [0, 5] rfl (fX3_works_p62_ok F hnL hRm hno hmn l0 l5)
      · refine xr_aload_n 0 (r := (some l0)) F dX3_works_21 rfl ?_
        refine xr_iload_n 1 F dX3_works_22 rfl ?_
        refine xr_iload_n 2 F dX3_works_23 rfl ?_
        refine xr_VI (y := yX3_takesOldest) (As := [.int l1, .int l2]) (r := (some l0)) F (hno _) dX3_works_24 (fun z => fX3_takesOldest_m (xFG F) z l1 l2) (Or.inl rfl) (ci := 39) (C := RX3) (T := TX3) rfl q3868 q3865 q3867 qs106 (xroom hRm (Nat.le_of_ble_eq_true rfl) (Nat.le_of_ble_eq_true rfl)) ⟨by decide, by decide⟩ n_X3_takesOldest rfl (xcat (Nat.le_of_ble_eq_true rfl)) (fun v24 => ?_)
        refine xs_i [0, 1, 2, 3, 4, 6] F dX3_works_27 hnL rfl rfl (xk1 rfl rfl (xk1 rfl rfl (xk1 rfl rfl (xk1 rfl rfl (xk2 rfl rfl (xk1 rfl rfl xk0)))))) ?_
        refine xr_aload_n 1 (r := (some l0)) F dX3_works_29 rfl ?_
        refine xr_iload_n 2 F dX3_works_30 rfl ?_
        refine xr_VV (y := yX3_ages) (As := [.int l1]) (r := (some l0)) F (hno _) dX3_works_31 (fun z => fX3_ages_m (xFG F) z l1) (Or.inl rfl) (ci := 39) (C := RX3) (T := TX3) rfl q3838 q3835 q3837 qs103 (xroom hRm (Nat.le_of_ble_eq_true rfl) (Nat.le_of_ble_eq_true rfl)) ⟨by decide, by decide⟩ n_X3_ages rfl (xcat (Nat.le_of_ble_eq_true rfl)) (fun _ => ?_)
        refine xr_iload 0 F dX3_works_34 rfl ?_
        refine xr_if_eq 53 F dX3_works_36 rfl ?_ ?_
        · exact xI.sub [1, 2, 3, 4, 5, 6] rfl (fX3_works_p53_ok F hnL hRm hno hmn ih l0 l1 l2 l3 l4 l6)
        · refine xr_aload_n 1 (r := (some l0)) F dX3_works_39 rfl ?_
          refine xr_iload_n 2 F dX3_works_40 rfl ?_
          refine xr_VI (y := yX3_totalOf) (As := [.int l1]) (r := (some l0)) F (hno _) dX3_works_41 (fun z => fX3_totalOf_m (xFG F) z l1) (Or.inl rfl) (ci := 39) (C := RX3) (T := TX3) rfl q3646 q3643 q3645 qs82 (xroom hRm (Nat.le_of_ble_eq_true rfl) (Nat.le_of_ble_eq_true rfl)) ⟨by decide, by decide⟩ n_X3_totalOf rfl (xcat (Nat.le_of_ble_eq_true rfl)) (fun v41 => ?_)
          refine xr_iload 5 F dX3_works_44 rfl ?_
          refine xr_icmp_lt 53 F dX3_works_46 rfl ?_ ?_
          · exact xI.sub [1, 2, 3, 4, 5, 6] rfl (fX3_works_p53_ok F hnL hRm hno hmn ih l0 l1 l2 l3 l4 l6)
          · refine xr_iconst (1 : Int32) F dX3_works_49 rfl ?_
            refine xr_goto 54 F dX3_works_50 rfl ?_
            exact xI.sub [1, 2, 3, 4, 5, 6] rfl (fX3_works_p54_ok F hnL hRm hno hmn ih l0 l1 l2 l3 l4 l6 (1 : Int32))
theorem fX3_works_m {l : Launch} {D : xD} {s0 : State} {b0 : Nat} {Γ : Nat → Option Nat} (G : xG l D s0 b0 Γ) (a0 : Nat) (p0 : Int32) (p1 : Int32) (p2 : Int32) (p3 : Int32) : xMeth l D s0 Γ yX3_works (Cond.code yX3_works cX3_works 7 (some .boolean)) (7) (149) [.ref a0, .int p0, .int p1, .int p2, .int p3] xeI (fX3_works a0 p0 p1 p2 p3) := by
  refine xMeth.of (lv0 := [(0, va_rf (some a0)), (1, .int p0), (2, .int p1), (3, .int p2), (4, .int p3)]) G (by decide +kernel) (Or.inl rfl) (Nat.le_of_ble_eq_true rfl) rfl (fun x F hnL hRm hmn ht e1 e2 e3 e4 => ?_)
  have hno : ∀ pc, xNo x pc := fun pc z hz => by rw [ht.1 rfl] at hz; cases hz
  unfold fX3_works
  refine xr_iconst (1 : Int32) F dX3_works_0 rfl ?_
  refine xr_letI (fun x5_1 => ?_)
  refine xs_i [0, 1, 2, 3, 4] F dX3_works_1 hnL rfl rfl (xk1 rfl rfl (xk1 rfl rfl (xk1 rfl rfl (xk1 rfl rfl (xk2 rfl rfl xk0))))) ?_
  refine xr_aload_n 1 (r := (some a0)) F dX3_works_3 rfl ?_
  refine xr_VV (y := yX3_putsAside) (As := []) (r := (some a0)) F (hno _) dX3_works_4 (fun z => fX3_putsAside_m (xFG F) z) (Or.inl rfl) (ci := 39) (C := RX3) (T := TX3) rfl q3506 q3503 q3505 qs53 (xroom hRm (Nat.le_of_ble_eq_true rfl) (Nat.le_of_ble_eq_true rfl)) ⟨by decide, by decide⟩ n_X3_putsAside rfl (xcat (Nat.le_of_ble_eq_true rfl)) (fun _ => ?_)
  refine xr_iconst (0 : Int32) F dX3_works_7 rfl ?_
  refine xr_letI (fun x6_8 => ?_)
  refine xs_i [0, 1, 2, 3, 4, 5] F dX3_works_8 hnL rfl rfl (xk2 rfl rfl (xk1 rfl rfl (xk1 rfl rfl (xk1 rfl rfl (xk1 rfl rfl (xk1 rfl rfl xk0)))))) ?_
  exact xI.sub [2, 3, 4, 5, 6, 1, 0] rfl (fX3_works_p10_ok F hnL hRm hno hmn xFU a0 p0 p1 p2 p3 x5_1 x6_8)
theorem fX3_steadyTake_p110_ok {x : xC} (F : xF x RX3 cX3_steadyTake (some .int)) (hnL : xnL x = 7) (hRm : ∃ dc ds, x.2.2.2.1 = { frames := 8, cells := dc, slots := ds, locals := 175 }) (hno : ∀ pc, xNo x pc) (hmn : xmn x = "steadyTake" ∧ xmy x yX3_steadyTake) {k69 : Nat → Int32 → Int32 → Int32 → Int32 → Int32 → xM (Int32)} (hk69 : ∀ (l0 : Nat) (l1 : Int32) (l2 : Int32) (l3 : Int32) (l4 : Int32) (l5 : Int32), xI x xeI 69 [(0, va_rf (some l0)), (1, .int l1), (2, .int l2), (3, .int l3), (4, .int l4), (5, .int l5)] [] (k69 l0 l1 l2 l3 l4 l5)) (l0 : Nat) (l1 : Int32) (l2 : Int32) (l3 : Int32) (l4 : Int32) (l5 : Int32) : xI x xeI 110 [(0, va_rf (some l0)), (1, .int l1), (2, .int l2), (3, .int l3), (4, .int l4), (5, .int l5)] [] (fX3_steadyTake_p110 k69 l0 l1 l2 l3 l4 l5) := by
  unfold fX3_steadyTake_p110
  refine xr_goto 69 F dX3_steadyTake_110 rfl ?_
  exact xI.sub [0, 1, 2, 3, 4, 5] rfl (hk69 l0 l1 l2 l3 l4 l5)
theorem fX3_steadyTake_p69_ok {x : xC} (F : xF x RX3 cX3_steadyTake (some .int)) (hnL : xnL x = 7) (hRm : ∃ dc ds, x.2.2.2.1 = { frames := 8, cells := dc, slots := ds, locals := 175 }) (hno : ∀ pc, xNo x pc) (hmn : xmn x = "steadyTake" ∧ xmy x yX3_steadyTake) : ∀ (n : Nat) (l0 : Nat) (l1 : Int32) (l2 : Int32) (l3 : Int32) (l4 : Int32) (l5 : Int32), xI x xeI 69 [(0, va_rf (some l0)), (1, .int l1), (2, .int l2), (3, .int l3), (4, .int l4), (5, .int l5)] [] (fX3_steadyTake_p69 n l0 l1 l2 l3 l4 l5) := by
  intro n
  induction n with
  | zero => intro l0 l1 l2 l3 l4 l5; exact xI.stuck
  | succ n ih =>
    intro l0 l1 l2 l3 l4 l5
    unfold fX3_steadyTake_p69
    refine xr_iload 5 F dX3_steadyTake_69 rfl ?_
    refine xr_iload 4 F dX3_steadyTake_71 rfl ?_
    refine xr_iconst (1 : Int32) F dX3_steadyTake_73 rfl ?_
    refine xr_iadd F dX3_steadyTake_74 ?_
    refine xr_icmp_le 113 F dX3_steadyTake_75 rfl ?_ ?_
    · refine xr_iload 4 F dX3_steadyTake_113 rfl ?_
      exact xr_iret F dX3_steadyTake_115
    · refine xr_iload 4 F dX3_steadyTake_78 rfl ?_
      refine xr_iload 5 F dX3_steadyTake_80 rfl ?_
      refine xr_iadd F dX3_steadyTake_82 ?_
      refine xr_iconst (2 : Int32) F dX3_steadyTake_83 rfl ?_
      refine xr_idiv F dX3_steadyTake_84 ?_
      refine xr_letI (fun x6_85 => ?_)
      refine xs_i [0, 1, 2, 3, 4, 5] F dX3_steadyTake_85 hnL rfl rfl (xk1 rfl rfl (xk1 rfl rfl (xk1 rfl rfl (xk1 rfl rfl (xk1 rfl rfl (xk2 rfl rfl xk0)))))) ?_
      refine xr_aload_n 1 (r := (some l0)) F dX3_steadyTake_87 rfl ?_
      refine xr_iload_n 2 F dX3_steadyTake_88 rfl ?_
      refine xr_iload 0 F dX3_steadyTake_89 rfl ?_
      refine xr_iload_n 3 F dX3_steadyTake_91 rfl ?_
      refine xr_iload_n 4 F dX3_steadyTake_92 rfl ?_
      refine xr_VI (y := yX3_works) (As := [.int l1, .int x6_85, .int l2, .int l3]) (r := (some l0)) F (hno _) dX3_steadyTake_93 (fun z => fX3_works_m (xFG F) z l1 x6_85 l2 l3) (Or.inl rfl) (ci := 39) (C := RX3) (T := TX3) rfl q3864 q3861 q3863 qs105 (xroom hRm (Nat.le_of_ble_eq_true rfl) (Nat.le_of_ble_eq_true rfl)) ⟨by decide, by decide⟩ n_X3_works rfl (xcat (Nat.le_of_ble_eq_true rfl)) (fun v93 => ?_)
      refine xr_if_eq 106 F dX3_steadyTake_96 rfl ?_ ?_
      · refine xr_iload 0 F dX3_steadyTake_106 rfl ?_
        refine xs_i [1, 2, 3, 4, 5] F dX3_steadyTake_108 hnL rfl rfl (xk1 rfl rfl (xk1 rfl rfl (xk1 rfl rfl (xk1 rfl rfl (xk2 rfl rfl xk0))))) ?_
        exact xI.sub [1, 2, 3, 4, 5, 0] rfl (fX3_steadyTake_p110_ok F hnL hRm hno hmn ih l0 l1 l2 l3 l4 x6_85)
      · refine xr_iload 0 F dX3_steadyTake_99 rfl ?_
        refine xs_i [1, 2, 3, 4, 6] F dX3_steadyTake_101 hnL rfl rfl (xk1 rfl rfl (xk1 rfl rfl (xk1 rfl rfl (xk2 rfl rfl (xk1 rfl rfl xk0))))) ?_
        refine xr_goto 110 F dX3_steadyTake_103 rfl ?_
        exact xI.sub [1, 2, 3, 4, 0, 5] rfl (fX3_steadyTake_p110_ok F hnL hRm hno hmn ih l0 l1 l2 l3 x6_85 l5)
theorem fX3_steadyTake_p35_ok {x : xC} (F : xF x RX3 cX3_steadyTake (some .int)) (hnL : xnL x = 7) (hRm : ∃ dc ds, x.2.2.2.1 = { frames := 8, cells := dc, slots := ds, locals := 175 }) (hno : ∀ pc, xNo x pc) (hmn : xmn x = "steadyTake" ∧ xmy x yX3_steadyTake) (l0 : Nat) (l1 : Int32) (l2 : Int32) (l3 : Int32) (s0 : Int32) (s1 : Nat) : xI x xeI 35 [(0, va_rf (some l0)), (1, .int l1), (2, .int l2), (3, .int l3)] [.int s0, va_rf (some s1)] (fX3_steadyTake_p35 l0 l1 l2 l3 s0 s1) := by
  unfold fX3_steadyTake_p35
  refine xr_iconst (2 : Int32) F dX3_steadyTake_35 rfl ?_
  refine xr_VI (y := yX3_throwsIf) (As := [.int s0, .int (2 : Int32)]) (r := (some s1)) F (hno _) dX3_steadyTake_36 (fun z => fX3_throwsIf_m (xFG F) z s0 (2 : Int32)) (Or.inl rfl) (ci := 39) (C := RX3) (T := TX3) rfl q3634 q3631 q3633 qs79 (xroom hRm (Nat.le_of_ble_eq_true rfl) (Nat.le_of_ble_eq_true rfl)) ⟨by decide, by decide⟩ n_X3_throwsIf rfl (xcat (Nat.le_of_ble_eq_true rfl)) (fun v36 => ?_)
  refine xr_if_eq 44 F dX3_steadyTake_39 rfl ?_ ?_
  · refine xr_aload_n 0 (r := (some l0)) F dX3_steadyTake_44 rfl ?_
    refine xr_iload_n 1 F dX3_steadyTake_45 rfl ?_
    refine xr_iconst (0 : Int32) F dX3_steadyTake_46 rfl ?_
    refine xr_iload_n 2 F dX3_steadyTake_47 rfl ?_
    refine xr_iload_n 3 F dX3_steadyTake_48 rfl ?_
    refine xr_VI (y := yX3_works) (As := [.int l1, .int (0 : Int32), .int l2, .int l3]) (r := (some l0)) F (hno _) dX3_steadyTake_49 (fun z => fX3_works_m (xFG F) z l1 (0 : Int32) l2 l3) (Or.inl rfl) (ci := 39) (C := RX3) (T := TX3) rfl q3864 q3861 q3863 qs105 (xroom hRm (Nat.le_of_ble_eq_true rfl) (Nat.le_of_ble_eq_true rfl)) ⟨by decide, by decide⟩ n_X3_works rfl (xcat (Nat.le_of_ble_eq_true rfl)) (fun v49 => ?_)
    refine xr_if_ne 57 F dX3_steadyTake_52 rfl ?_ ?_
    · refine xr_iconst (-1 : Int32) F dX3_steadyTake_55 rfl ?_
      exact xr_iret F dX3_steadyTake_56
    · refine xr_iconst (0 : Int32) F dX3_steadyTake_57 rfl ?_
      refine xr_letI (fun x4_58 => ?_)
      refine xs_i [0, 1, 2, 3] F dX3_steadyTake_58 hnL rfl rfl (xk1 rfl rfl (xk1 rfl rfl (xk1 rfl rfl (xk2 rfl rfl xk0)))) ?_
      refine xr_aload_n 1 (r := (some l0)) F dX3_steadyTake_60 rfl ?_
      refine xr_iload_n 2 F dX3_steadyTake_61 rfl ?_
      refine xr_VI (y := yX3_adultsOf) (As := [.int l1]) (r := (some l0)) F (hno _) dX3_steadyTake_62 (fun z => fX3_adultsOf_m (xFG F) z l1) (Or.inl rfl) (ci := 39) (C := RX3) (T := TX3) rfl q3669 q3666 q3668 qs86 (xroom hRm (Nat.le_of_ble_eq_true rfl) (Nat.le_of_ble_eq_true rfl)) ⟨by decide, by decide⟩ n_X3_adultsOf rfl (xcat (Nat.le_of_ble_eq_true rfl)) (fun v62 => ?_)
      refine xr_iconst (1 : Int32) F dX3_steadyTake_65 rfl ?_
      refine xr_iadd F dX3_steadyTake_66 ?_
      refine xr_letI (fun x5_67 => ?_)
      refine xs_i [0, 1, 2, 3, 4] F dX3_steadyTake_67 hnL rfl rfl (xk2 rfl rfl (xk1 rfl rfl (xk1 rfl rfl (xk1 rfl rfl (xk1 rfl rfl xk0))))) ?_
      exact xI.sub [2, 3, 4, 5, 1, 0] rfl (fX3_steadyTake_p69_ok F hnL hRm hno hmn xFU l0 l1 l2 l3 x4_58 x5_67)
  · refine xr_iconst (0 : Int32) F dX3_steadyTake_42 rfl ?_
    exact xr_iret F dX3_steadyTake_43
theorem fX3_steadyTake_p30_ok {x : xC} (F : xF x RX3 cX3_steadyTake (some .int)) (hnL : xnL x = 7) (hRm : ∃ dc ds, x.2.2.2.1 = { frames := 8, cells := dc, slots := ds, locals := 175 }) (hno : ∀ pc, xNo x pc) (hmn : xmn x = "steadyTake" ∧ xmy x yX3_steadyTake) (l0 : Nat) (l1 : Int32) (l2 : Int32) (l3 : Int32) (s0 : Nat) : xI x xeI 30 [(0, va_rf (some l0)), (1, .int l1), (2, .int l2), (3, .int l3)] [va_rf (some s0)] (fX3_steadyTake_p30 l0 l1 l2 l3 s0) := by
  unfold fX3_steadyTake_p30
  refine xr_iconst (1 : Int32) F dX3_steadyTake_30 rfl ?_
  refine xr_goto 35 F dX3_steadyTake_31 rfl ?_
  exact xI.sub [0, 1, 2, 3] rfl (fX3_steadyTake_p35_ok F hnL hRm hno hmn l0 l1 l2 l3 (1 : Int32) s0)
theorem fX3_steadyTake_m {l : Launch} {D : xD} {s0 : State} {b0 : Nat} {Γ : Nat → Option Nat} (G : xG l D s0 b0 Γ) (a0 : Nat) (p0 : Int32) (p1 : Int32) (p2 : Int32) : xMeth l D s0 Γ yX3_steadyTake (Cond.code yX3_steadyTake cX3_steadyTake 7 (some .int)) (8) (175) [.ref a0, .int p0, .int p1, .int p2] xeI (fX3_steadyTake a0 p0 p1 p2) := by
  refine xMeth.of (lv0 := [(0, va_rf (some a0)), (1, .int p0), (2, .int p1), (3, .int p2)]) G (by decide +kernel) (Or.inl rfl) (Nat.le_of_ble_eq_true rfl) rfl (fun x F hnL hRm hmn ht e1 e2 e3 e4 => ?_)
  have hno : ∀ pc, xNo x pc := fun pc z hz => by rw [ht.1 rfl] at hz; cases hz
  unfold fX3_steadyTake
  refine xr_aload_n 0 (r := (some a0)) F dX3_steadyTake_0 rfl ?_
  refine xr_iconst (0 : Int32) F dX3_steadyTake_1 rfl ?_
  refine xr_put (r := (some a0)) (ref := "ReserveLedgerModel") F dX3_steadyTake_2 xk_39 (by decide) (Or.inl q3394) (Or.inl rfl) (Or.inl rfl) ⟨rfl, rfl⟩ ?_
  refine xr_aload_n 0 (r := (some a0)) F dX3_steadyTake_5 rfl ?_
  refine xr_iload_n 1 F dX3_steadyTake_6 rfl ?_
  refine xr_VI (y := yX3_noSpecies) (As := [.int p0]) (r := (some a0)) F (hno _) dX3_steadyTake_7 (fun z => fX3_noSpecies_m (xFG F) z p0) (Or.inl rfl) (ci := 39) (C := RX3) (T := TX3) rfl q3688 q3685 q3687 qs87 (xroom hRm (Nat.le_of_ble_eq_true rfl) (Nat.le_of_ble_eq_true rfl)) ⟨by decide, by decide⟩ n_X3_noSpecies rfl (xcat (Nat.le_of_ble_eq_true rfl)) (fun v7 => ?_)
  refine xr_if_ne 42 F dX3_steadyTake_10 rfl ?_ ?_
  · refine xr_aload_n 0 (r := (some a0)) F dX3_steadyTake_13 rfl ?_
    refine xr_iload_n 2 F dX3_steadyTake_14 rfl ?_
    refine xr_i2l F dX3_steadyTake_15 ?_
    refine xr_lconst 1 F dX3_steadyTake_16 rfl ?_
    refine xr_ldc2 F dX3_steadyTake_17 q3860 ?_
    refine xr_SI (y := yX3_in) (As := [.long p1.toInt64, .long (1 : Int64), .long (30 : Int64)]) F (hno _) dX3_steadyTake_20 (fX3_in_m (xFG F) p1.toInt64 (1 : Int64) (30 : Int64)) (Or.inl rfl) q3544 q144 (Or.inl q3542) q3543 (xroom hRm (Nat.le_of_ble_eq_true rfl) (Nat.le_of_ble_eq_true rfl)) ⟨by decide, by decide⟩ n_X3_in rfl (xcat (Nat.le_of_ble_eq_true rfl)) (fun v20 => ?_)
    refine xr_if_eq 30 F dX3_steadyTake_23 rfl ?_ ?_
    · exact xI.sub [0, 1, 2, 3] rfl (fX3_steadyTake_p30_ok F hnL hRm hno hmn a0 p0 p1 p2 a0)
    · refine xr_iload_n 3 F dX3_steadyTake_26 rfl ?_
      refine xr_if_ge 34 F dX3_steadyTake_27 rfl ?_ ?_
      · refine xr_iconst (0 : Int32) F dX3_steadyTake_34 rfl ?_
        exact xI.sub [0, 1, 2, 3] rfl (fX3_steadyTake_p35_ok F hnL hRm hno hmn a0 p0 p1 p2 (0 : Int32) a0)
      · exact xI.sub [0, 1, 2, 3] rfl (fX3_steadyTake_p30_ok F hnL hRm hno hmn a0 p0 p1 p2 a0)
  · refine xr_iconst (0 : Int32) F dX3_steadyTake_42 rfl ?_
    exact xr_iret F dX3_steadyTake_43
theorem fX3_adds_m {l : Launch} {D : xD} {s0 : State} {b0 : Nat} {Γ : Nat → Option Nat} (G : xG l D s0 b0 Γ) (a0 : Nat) (p0 : Int32) (p1 : Int32) (p2 : Int32) : xMeth l D s0 Γ yX3_adds (Cond.code yX3_adds cX3_adds 4 none) (2) (33) [.ref a0, .int p0, .int p1, .int p2] xeV (fX3_adds a0 p0 p1 p2) := by
  refine xMeth.of (lv0 := [(0, va_rf (some a0)), (1, .int p0), (2, .int p1), (3, .int p2)]) G (by decide +kernel) (Or.inl rfl) (Nat.le_of_ble_eq_true rfl) rfl (fun x F hnL hRm hmn ht e1 e2 e3 e4 => ?_)
  have hno : ∀ pc, xNo x pc := fun pc z hz => by rw [ht.1 rfl] at hz; cases hz
  unfold fX3_adds
  refine xr_aload_n 0 (r := (some a0)) F dX3_adds_0 rfl ?_
  refine xr_gR (r := (some a0)) (ref := "ReserveLedgerModel") F dX3_adds_1 (C := RX3) (T := TX3) (N := 25) rfl (by decide) (Or.inl q3395) (Or.inl rfl) (fun v1 => ?_)
  refine xr_iload_n 1 F dX3_adds_4 rfl ?_
  refine xr_bipush (39 : Int32) F dX3_adds_5 rfl ?_
  refine xr_iload_n 2 F dX3_adds_7 rfl ?_
  refine xr_iadd F dX3_adds_8 ?_
  refine xr_SI (y := yX3_at) (As := [.int p0, .int ((39 : Int32) + p1)]) F (hno _) dX3_adds_9 (fX3_at_m (xFG F) p0 ((39 : Int32) + p1)) (Or.inl rfl) q3565 q144 (Or.inl q3563) q3564 (xroom hRm (Nat.le_of_ble_eq_true rfl) (Nat.le_of_ble_eq_true rfl)) ⟨by decide, by decide⟩ n_X3_at rfl (xcat (Nat.le_of_ble_eq_true rfl)) (fun v9 => ?_)
  refine xr_dup2_11 F dX3_adds_12 rfl (xrf_cat _) ?_
  refine xr_iald (r := v1) F dX3_adds_13 (fun v13 => ?_)
  refine xr_iload_n 3 F dX3_adds_14 rfl ?_
  refine xr_iadd F dX3_adds_15 ?_
  refine xr_iast (r := v1) F dX3_adds_16 ?_
  refine xr_aload_n 0 (r := (some a0)) F dX3_adds_17 rfl ?_
  refine xr_gR (r := (some a0)) (ref := "ReserveLedgerModel") F dX3_adds_18 (C := RX3) (T := TX3) (N := 25) rfl (by decide) (Or.inl q3395) (Or.inl rfl) (fun v18 => ?_)
  refine xr_iload_n 1 F dX3_adds_21 rfl ?_
  refine xr_bipush (11 : Int32) F dX3_adds_22 rfl ?_
  refine xr_SI (y := yX3_at) (As := [.int p0, .int (11 : Int32)]) F (hno _) dX3_adds_24 (fX3_at_m (xFG F) p0 (11 : Int32)) (Or.inl rfl) q3565 q144 (Or.inl q3563) q3564 (xroom hRm (Nat.le_of_ble_eq_true rfl) (Nat.le_of_ble_eq_true rfl)) ⟨by decide, by decide⟩ n_X3_at rfl (xcat (Nat.le_of_ble_eq_true rfl)) (fun v24 => ?_)
  refine xr_dup2_11 F dX3_adds_27 rfl (xrf_cat _) ?_
  refine xr_iald (r := v18) F dX3_adds_28 (fun v28 => ?_)
  refine xr_iload_n 3 F dX3_adds_29 rfl ?_
  refine xr_iadd F dX3_adds_30 ?_
  refine xr_iast (r := v18) F dX3_adds_31 ?_
  exact xr_vret F dX3_adds_32
theorem fX3_takesOut_m {l : Launch} {D : xD} {s0 : State} {b0 : Nat} {Γ : Nat → Option Nat} (G : xG l D s0 b0 Γ) (a0 : Nat) (p0 : Int32) (p1 : Int32) (p2 : Int32) : xMeth l D s0 Γ yX3_takesOut (Cond.code yX3_takesOut cX3_takesOut 5 none) (6) (122) [.ref a0, .int p0, .int p1, .int p2] xeV (fX3_takesOut a0 p0 p1 p2) := by
  refine xMeth.of (lv0 := [(0, va_rf (some a0)), (1, .int p0), (2, .int p1), (3, .int p2)]) G (by decide +kernel) (Or.inl rfl) (Nat.le_of_ble_eq_true rfl) rfl (fun x F hnL hRm hmn ht e1 e2 e3 e4 => ?_)
  have hno : ∀ pc, xNo x pc := fun pc z hz => by rw [ht.1 rfl] at hz; cases hz
  unfold fX3_takesOut
  refine xr_aload_n 0 (r := (some a0)) F dX3_takesOut_0 rfl ?_
  refine xr_iload_n 1 F dX3_takesOut_1 rfl ?_
  refine xr_VI (y := yX3_totalOf) (As := [.int p0]) (r := (some a0)) F (hno _) dX3_takesOut_2 (fun z => fX3_totalOf_m (xFG F) z p0) (Or.inl rfl) (ci := 39) (C := RX3) (T := TX3) rfl q3646 q3643 q3645 qs82 (xroom hRm (Nat.le_of_ble_eq_true rfl) (Nat.le_of_ble_eq_true rfl)) ⟨by decide, by decide⟩ n_X3_totalOf rfl (xcat (Nat.le_of_ble_eq_true rfl)) (fun v2 => ?_)
  refine xs_i [0, 1, 2, 3] F dX3_takesOut_5 hnL rfl rfl (xk1 rfl rfl (xk1 rfl rfl (xk1 rfl rfl (xk2 rfl rfl xk0)))) ?_
  refine xr_aload_n 1 (r := (some a0)) F dX3_takesOut_7 rfl ?_
  refine xr_gR (r := (some a0)) (ref := "ReserveLedgerModel") F dX3_takesOut_8 (C := RX3) (T := TX3) (N := 25) rfl (by decide) (Or.inl q3395) (Or.inl rfl) (fun v8 => ?_)
  refine xr_iload_n 2 F dX3_takesOut_11 rfl ?_
  refine xr_bipush (39 : Int32) F dX3_takesOut_12 rfl ?_
  refine xr_iload_n 3 F dX3_takesOut_14 rfl ?_
  refine xr_iadd F dX3_takesOut_15 ?_
  refine xr_SI (y := yX3_at) (As := [.int p0, .int ((39 : Int32) + p1)]) F (hno _) dX3_takesOut_16 (fX3_at_m (xFG F) p0 ((39 : Int32) + p1)) (Or.inl rfl) q3565 q144 (Or.inl q3563) q3564 (xroom hRm (Nat.le_of_ble_eq_true rfl) (Nat.le_of_ble_eq_true rfl)) ⟨by decide, by decide⟩ n_X3_at rfl (xcat (Nat.le_of_ble_eq_true rfl)) (fun v16 => ?_)
  refine xr_dup2_11 F dX3_takesOut_19 rfl (xrf_cat _) ?_
  refine xr_iald (r := v8) F dX3_takesOut_20 (fun v20 => ?_)
  refine xr_iload_n 4 F dX3_takesOut_21 rfl ?_
  refine xr_isub F dX3_takesOut_22 ?_
  refine xr_iast (r := v8) F dX3_takesOut_23 ?_
  refine xr_aload_n 1 (r := (some a0)) F dX3_takesOut_24 rfl ?_
  refine xr_gR (r := (some a0)) (ref := "ReserveLedgerModel") F dX3_takesOut_25 (C := RX3) (T := TX3) (N := 25) rfl (by decide) (Or.inl q3395) (Or.inl rfl) (fun v25 => ?_)
  refine xr_iload_n 2 F dX3_takesOut_28 rfl ?_
  refine xr_bipush (10 : Int32) F dX3_takesOut_29 rfl ?_
  refine xr_SI (y := yX3_at) (As := [.int p0, .int (10 : Int32)]) F (hno _) dX3_takesOut_31 (fX3_at_m (xFG F) p0 (10 : Int32)) (Or.inl rfl) q3565 q144 (Or.inl q3563) q3564 (xroom hRm (Nat.le_of_ble_eq_true rfl) (Nat.le_of_ble_eq_true rfl)) ⟨by decide, by decide⟩ n_X3_at rfl (xcat (Nat.le_of_ble_eq_true rfl)) (fun v31 => ?_)
  refine xr_dup2_11 F dX3_takesOut_34 rfl (xrf_cat _) ?_
  refine xr_iald (r := v25) F dX3_takesOut_35 (fun v35 => ?_)
  refine xr_iload_n 4 F dX3_takesOut_36 rfl ?_
  refine xr_iadd F dX3_takesOut_37 ?_
  refine xr_iast (r := v25) F dX3_takesOut_38 ?_
  refine xr_aload_n 1 (r := (some a0)) F dX3_takesOut_39 rfl ?_
  refine xr_iload_n 2 F dX3_takesOut_40 rfl ?_
  refine xr_iload 0 F dX3_takesOut_41 rfl ?_
  refine xr_VV (y := yX3_losesMarks) (As := [.int p0, .int v2]) (r := (some a0)) F (hno _) dX3_takesOut_43 (fun z => fX3_losesMarks_m (xFG F) z p0 v2) (Or.inl rfl) (ci := 39) (C := RX3) (T := TX3) rfl q3842 q3839 q3841 qs104 (xroom hRm (Nat.le_of_ble_eq_true rfl) (Nat.le_of_ble_eq_true rfl)) ⟨by decide, by decide⟩ n_X3_losesMarks rfl (xcat (Nat.le_of_ble_eq_true rfl)) (fun _ => ?_)
  exact xr_vret F dX3_takesOut_46
theorem fX3_sickens_p13_ok {x : xC} (F : xF x RX3 cX3_sickens (some .int)) (hnL : xnL x = 9) (hRm : ∃ dc ds, x.2.2.2.1 = { frames := 6, cells := dc, slots := ds, locals := 122 }) (hno : ∀ pc, xNo x pc) (hmn : xmn x = "sickens" ∧ xmy x yX3_sickens) : ∀ (n : Nat) (l0 : Nat) (l1 : Int32) (l3 : Int32) (l4 : Int32) (l5 : Int32) (l6 : Int32) (l7 : Int32), xI x xeI 13 [(0, va_rf (some l0)), (1, .int l1), (3, .int l3), (4, .int l4), (5, .int l5), (6, .int l6), (7, .int l7)] [] (fX3_sickens_p13 n l0 l1 l3 l4 l5 l6 l7) := by
  intro n
  induction n with
  | zero => intro l0 l1 l3 l4 l5 l6 l7; exact xI.stuck
  | succ n ih =>
    intro l0 l1 l3 l4 l5 l6 l7
    unfold fX3_sickens_p13
    refine xr_iload 6 F dX3_sickens_13 rfl ?_
    refine xr_iload_n 2 F dX3_sickens_15 rfl ?_
    refine xr_icmp_gt 70 F dX3_sickens_16 rfl ?_ ?_
    · refine xr_aload_n 0 (r := (some l0)) F dX3_sickens_70 rfl ?_
      refine xr_gR (r := (some l0)) (ref := "ReserveLedgerModel") F dX3_sickens_71 (C := RX3) (T := TX3) (N := 25) rfl (by decide) (Or.inl q3395) (Or.inl rfl) (fun v71 => ?_)
      refine xr_iload_n 1 F dX3_sickens_74 rfl ?_
      refine xr_bipush (9 : Int32) F dX3_sickens_75 rfl ?_
      refine xr_SI (y := yX3_at) (As := [.int l1, .int (9 : Int32)]) F (hno _) dX3_sickens_77 (fX3_at_m (xFG F) l1 (9 : Int32)) (Or.inl rfl) q3565 q144 (Or.inl q3563) q3564 (xroom hRm (Nat.le_of_ble_eq_true rfl) (Nat.le_of_ble_eq_true rfl)) ⟨by decide, by decide⟩ n_X3_at rfl (xcat (Nat.le_of_ble_eq_true rfl)) (fun v77 => ?_)
      refine xr_dup2_11 F dX3_sickens_80 rfl (xrf_cat _) ?_
      refine xr_iald (r := v71) F dX3_sickens_81 (fun v81 => ?_)
      refine xr_iload 5 F dX3_sickens_82 rfl ?_
      refine xr_iadd F dX3_sickens_84 ?_
      refine xr_iast (r := v71) F dX3_sickens_85 ?_
      refine xr_aload_n 0 (r := (some l0)) F dX3_sickens_86 rfl ?_
      refine xr_iload_n 1 F dX3_sickens_87 rfl ?_
      refine xr_iload 4 F dX3_sickens_88 rfl ?_
      refine xr_VV (y := yX3_losesMarks) (As := [.int l1, .int l5]) (r := (some l0)) F (hno _) dX3_sickens_90 (fun z => fX3_losesMarks_m (xFG F) z l1 l5) (Or.inl rfl) (ci := 39) (C := RX3) (T := TX3) rfl q3842 q3839 q3841 qs104 (xroom hRm (Nat.le_of_ble_eq_true rfl) (Nat.le_of_ble_eq_true rfl)) ⟨by decide, by decide⟩ n_X3_losesMarks rfl (xcat (Nat.le_of_ble_eq_true rfl)) (fun _ => ?_)
      refine xr_iload 5 F dX3_sickens_93 rfl ?_
      exact xr_iret F dX3_sickens_95
    · refine xr_aload_n 0 (r := (some l0)) F dX3_sickens_19 rfl ?_
      refine xr_iload_n 1 F dX3_sickens_20 rfl ?_
      refine xr_iload 6 F dX3_sickens_21 rfl ?_
      refine xr_VI (y := yX3_cohortOf) (As := [.int l1, .int l7]) (r := (some l0)) F (hno _) dX3_sickens_23 (fun z => fX3_cohortOf_m (xFG F) z l1 l7) (Or.inl rfl) (ci := 39) (C := RX3) (T := TX3) rfl q3650 q3647 q3649 qs83 (xroom hRm (Nat.le_of_ble_eq_true rfl) (Nat.le_of_ble_eq_true rfl)) ⟨by decide, by decide⟩ n_X3_cohortOf rfl (xcat (Nat.le_of_ble_eq_true rfl)) (fun v23 => ?_)
      refine xr_i2l F dX3_sickens_26 ?_
      refine xr_iload 3 F dX3_sickens_27 rfl ?_
      refine xr_i2l F dX3_sickens_29 ?_
      refine xr_lmul F dX3_sickens_30 ?_
      refine xr_ldc2 F dX3_sickens_31 q3720 ?_
      refine xr_ldiv F dX3_sickens_34 ?_
      refine xr_l2i F dX3_sickens_35 ?_
      refine xr_letI (fun x8_36 => ?_)
      refine xs_i [0, 1, 2, 3, 4, 5, 6] F dX3_sickens_36 hnL rfl rfl (xk1 rfl rfl (xk1 rfl rfl (xk1 rfl rfl (xk1 rfl rfl (xk1 rfl rfl (xk1 rfl rfl (xk2 rfl rfl xk0))))))) ?_
      refine xr_aload_n 1 (r := (some l0)) F dX3_sickens_38 rfl ?_
      refine xr_gR (r := (some l0)) (ref := "ReserveLedgerModel") F dX3_sickens_39 (C := RX3) (T := TX3) (N := 25) rfl (by decide) (Or.inl q3395) (Or.inl rfl) (fun v39 => ?_)
      refine xr_iload_n 2 F dX3_sickens_42 rfl ?_
      refine xr_bipush (39 : Int32) F dX3_sickens_43 rfl ?_
      refine xr_iload 7 F dX3_sickens_45 rfl ?_
      refine xr_iadd F dX3_sickens_47 ?_
      refine xr_SI (y := yX3_at) (As := [.int l1, .int ((39 : Int32) + l7)]) F (hno _) dX3_sickens_48 (fX3_at_m (xFG F) l1 ((39 : Int32) + l7)) (Or.inl rfl) q3565 q144 (Or.inl q3563) q3564 (xroom hRm (Nat.le_of_ble_eq_true rfl) (Nat.le_of_ble_eq_true rfl)) ⟨by decide, by decide⟩ n_X3_at rfl (xcat (Nat.le_of_ble_eq_true rfl)) (fun v48 => ?_)
      refine xr_dup2_11 F dX3_sickens_51 rfl (xrf_cat _) ?_
      refine xr_iald (r := v39) F dX3_sickens_52 (fun v52 => ?_)
      refine xr_iload 0 F dX3_sickens_53 rfl ?_
      refine xr_isub F dX3_sickens_55 ?_
      refine xr_iast (r := v39) F dX3_sickens_56 ?_
      refine xr_iload 6 F dX3_sickens_57 rfl ?_
      refine xr_iload 0 F dX3_sickens_59 rfl ?_
      refine xr_iadd F dX3_sickens_61 ?_
      refine xr_letI (fun x6_62 => ?_)
      refine xs_i [1, 2, 3, 4, 5, 7] F dX3_sickens_62 hnL rfl rfl (xk1 rfl rfl (xk1 rfl rfl (xk1 rfl rfl (xk1 rfl rfl (xk2 rfl rfl (xk1 rfl rfl xk0)))))) ?_
      refine xs_inc [6, 0, 1, 2, 3, 4, 5] F dX3_sickens_64 rfl hnL rfl rfl (xk2 rfl rfl (xk1 rfl rfl (xk1 rfl rfl (xk1 rfl rfl (xk1 rfl rfl (xk1 rfl rfl xk0)))))) (fun x7_64 => ?_)
      refine xr_goto 13 F dX3_sickens_67 rfl ?_
      exact xI.sub [2, 3, 4, 5, 6, 1, 0] rfl (ih l0 l1 l3 l4 l5 x6_62 x7_64)
theorem fX3_sickens_m {l : Launch} {D : xD} {s0 : State} {b0 : Nat} {Γ : Nat → Option Nat} (G : xG l D s0 b0 Γ) (a0 : Nat) (p0 : Int32) (p1 : Int32) (p2 : Int32) (p3 : Int32) : xMeth l D s0 Γ yX3_sickens (Cond.code yX3_sickens cX3_sickens 9 (some .int)) (6) (122) [.ref a0, .int p0, .int p1, .int p2, .int p3] xeI (fX3_sickens a0 p0 p1 p2 p3) := by
  refine xMeth.of (lv0 := [(0, va_rf (some a0)), (1, .int p0), (2, .int p1), (3, .int p2), (4, .int p3)]) G (by decide +kernel) (Or.inl rfl) (Nat.le_of_ble_eq_true rfl) rfl (fun x F hnL hRm hmn ht e1 e2 e3 e4 => ?_)
  have hno : ∀ pc, xNo x pc := fun pc z hz => by rw [ht.1 rfl] at hz; cases hz
  unfold fX3_sickens
  refine xr_aload_n 0 (r := (some a0)) F dX3_sickens_0 rfl ?_
  refine xr_iload_n 1 F dX3_sickens_1 rfl ?_
  refine xr_VI (y := yX3_totalOf) (As := [.int p0]) (r := (some a0)) F (hno _) dX3_sickens_2 (fun z => fX3_totalOf_m (xFG F) z p0) (Or.inl rfl) (ci := 39) (C := RX3) (T := TX3) rfl q3646 q3643 q3645 qs82 (xroom hRm (Nat.le_of_ble_eq_true rfl) (Nat.le_of_ble_eq_true rfl)) ⟨by decide, by decide⟩ n_X3_totalOf rfl (xcat (Nat.le_of_ble_eq_true rfl)) (fun v2 => ?_)
  refine xs_i [0, 1, 2, 3, 4] F dX3_sickens_5 hnL rfl rfl (xk1 rfl rfl (xk1 rfl rfl (xk1 rfl rfl (xk1 rfl rfl (xk2 rfl rfl xk0))))) ?_
  refine xr_iconst (0 : Int32) F dX3_sickens_7 rfl ?_
  refine xr_letI (fun x6_8 => ?_)
  refine xs_i [0, 1, 2, 3, 4, 5] F dX3_sickens_8 hnL rfl rfl (xk2 rfl rfl (xk1 rfl rfl (xk1 rfl rfl (xk1 rfl rfl (xk1 rfl rfl (xk1 rfl rfl xk0)))))) ?_
  refine xr_iload_n 4 F dX3_sickens_10 rfl ?_
  refine xs_i [0, 1, 2, 3, 5, 6] F dX3_sickens_11 hnL rfl rfl (xk2 rfl rfl (xk1 rfl rfl (xk1 rfl rfl (xk1 rfl rfl (xk1 rfl rfl (xk1 rfl rfl xk0)))))) ?_
  exact xI.sub [3, 4, 5, 6, 2, 1, 0] rfl (fX3_sickens_p13_ok F hnL hRm hno hmn xFU a0 p0 p2 p3 v2 x6_8 p1)
theorem fX3_carriesOut_m {l : Launch} {D : xD} {s0 : State} {b0 : Nat} {Γ : Nat → Option Nat} (G : xG l D s0 b0 Γ) (a0 : Nat) (p0 : Int32) : xMeth l D s0 Γ yX3_carriesOut (Cond.code yX3_carriesOut cX3_carriesOut 7 none) (7) (150) [.ref a0, .int p0] xeV (fX3_carriesOut a0 p0) := by
  refine xMeth.of (lv0 := [(0, va_rf (some a0)), (1, .int p0)]) G (by decide +kernel) (Or.inl rfl) (Nat.le_of_ble_eq_true rfl) rfl (fun x F hnL hRm hmn ht e1 e2 e3 e4 => ?_)
  have hno : ∀ pc, xNo x pc := fun pc z hz => by rw [ht.1 rfl] at hz; cases hz
  unfold fX3_carriesOut
  refine xr_aload_n 0 (r := (some a0)) F dX3_carriesOut_0 rfl ?_
  refine xr_gR (r := (some a0)) (ref := "ReserveLedgerModel") F dX3_carriesOut_1 (C := RX3) (T := TX3) (N := 25) rfl (by decide) (Or.inl q3395) (Or.inl rfl) (fun v1 => ?_)
  refine xr_iload_n 1 F dX3_carriesOut_4 rfl ?_
  refine xr_iconst (1 : Int32) F dX3_carriesOut_5 rfl ?_
  refine xr_iadd F dX3_carriesOut_6 ?_
  refine xr_iald (r := v1) F dX3_carriesOut_7 (fun v7 => ?_)
  refine xs_i_n [0, 1] F dX3_carriesOut_8 hnL rfl rfl (xk1 rfl rfl (xk2 rfl rfl xk0)) ?_
  refine xr_aload_n 1 (r := (some a0)) F dX3_carriesOut_9 rfl ?_
  refine xr_gR (r := (some a0)) (ref := "ReserveLedgerModel") F dX3_carriesOut_10 (C := RX3) (T := TX3) (N := 25) rfl (by decide) (Or.inl q3395) (Or.inl rfl) (fun v10 => ?_)
  refine xr_iload_n 2 F dX3_carriesOut_13 rfl ?_
  refine xr_iconst (2 : Int32) F dX3_carriesOut_14 rfl ?_
  refine xr_iadd F dX3_carriesOut_15 ?_
  refine xr_iald (r := v10) F dX3_carriesOut_16 (fun v16 => ?_)
  refine xs_i_n [0, 1, 2] F dX3_carriesOut_17 hnL rfl rfl (xk2 rfl rfl (xk1 rfl rfl (xk1 rfl rfl xk0))) ?_
  refine xr_aload_n 2 (r := (some a0)) F dX3_carriesOut_18 rfl ?_
  refine xr_gR (r := (some a0)) (ref := "ReserveLedgerModel") F dX3_carriesOut_19 (C := RX3) (T := TX3) (N := 25) rfl (by decide) (Or.inl q3395) (Or.inl rfl) (fun v19 => ?_)
  refine xr_iload_n 3 F dX3_carriesOut_22 rfl ?_
  refine xr_iconst (3 : Int32) F dX3_carriesOut_23 rfl ?_
  refine xr_iadd F dX3_carriesOut_24 ?_
  refine xr_iald (r := v19) F dX3_carriesOut_25 (fun v25 => ?_)
  refine xs_i [0, 1, 2, 3] F dX3_carriesOut_26 hnL rfl rfl (xk2 rfl rfl (xk1 rfl rfl (xk1 rfl rfl (xk1 rfl rfl xk0)))) ?_
  refine xr_aload_n 3 (r := (some a0)) F dX3_carriesOut_28 rfl ?_
  refine xr_gR (r := (some a0)) (ref := "ReserveLedgerModel") F dX3_carriesOut_29 (C := RX3) (T := TX3) (N := 25) rfl (by decide) (Or.inl q3395) (Or.inl rfl) (fun v29 => ?_)
  refine xr_iload_n 4 F dX3_carriesOut_32 rfl ?_
  refine xr_iconst (4 : Int32) F dX3_carriesOut_33 rfl ?_
  refine xr_iadd F dX3_carriesOut_34 ?_
  refine xr_iald (r := v29) F dX3_carriesOut_35 (fun v35 => ?_)
  refine xs_i [0, 1, 2, 3] F dX3_carriesOut_36 hnL rfl rfl (xk2 rfl rfl (xk1 rfl rfl (xk1 rfl rfl (xk1 rfl rfl xk0)))) ?_
  refine xr_aload_n 4 (r := (some a0)) F dX3_carriesOut_38 rfl ?_
  refine xr_iload_n 2 F dX3_carriesOut_39 rfl ?_
  refine xr_iload 1 F dX3_carriesOut_40 rfl ?_
  refine xr_VI (y := yX3_cohortOf) (As := [.int v16, .int v25]) (r := (some a0)) F (hno _) dX3_carriesOut_42 (fun z => fX3_cohortOf_m (xFG F) z v16 v25) (Or.inl rfl) (ci := 39) (C := RX3) (T := TX3) rfl q3650 q3647 q3649 qs83 (xroom hRm (Nat.le_of_ble_eq_true rfl) (Nat.le_of_ble_eq_true rfl)) ⟨by decide, by decide⟩ n_X3_cohortOf rfl (xcat (Nat.le_of_ble_eq_true rfl)) (fun v42 => ?_)
  refine xs_i [0, 1, 2, 3, 4] F dX3_carriesOut_45 hnL rfl rfl (xk2 rfl rfl (xk1 rfl rfl (xk1 rfl rfl (xk1 rfl rfl (xk1 rfl rfl xk0))))) ?_
  refine xr_iload_n 4 F dX3_carriesOut_47 rfl ?_
  refine xr_if_ne 72 F dX3_carriesOut_48 rfl ?_ ?_
  · refine xr_aload_n 5 (r := (some a0)) F dX3_carriesOut_51 rfl ?_
    refine xr_iload_n 3 F dX3_carriesOut_52 rfl ?_
    refine xr_iload 2 F dX3_carriesOut_53 rfl ?_
    refine xr_iload 1 F dX3_carriesOut_55 rfl ?_
    refine xr_ldcw F dX3_carriesOut_57 q3890 ?_
    refine xr_iload 0 F dX3_carriesOut_60 rfl ?_
    refine xr_isub F dX3_carriesOut_62 ?_
    refine xr_SI (y := yJ12_min) (As := [.int v35, .int ((1000000 : Int32) - v42)]) F (hno _) dX3_carriesOut_63 (fJ12_min_m (xFG F) v35 ((1000000 : Int32) - v42)) (Or.inl rfl) q345 q135 (Or.inl q3767) q344 (xroom hRm (Nat.le_of_ble_eq_true rfl) (Nat.le_of_ble_eq_true rfl)) ⟨by decide, by decide⟩ n_J12_min rfl (xcat (Nat.le_of_ble_eq_true rfl)) (fun v63 => ?_)
    refine xr_VV (y := yX3_adds) (As := [.int v16, .int v25, .int v63]) (r := (some a0)) F (hno _) dX3_carriesOut_66 (fun z => fX3_adds_m (xFG F) z v16 v25 v63) (Or.inl rfl) (ci := 39) (C := RX3) (T := TX3) rfl q3894 q3891 q3893 qs111 (xroom hRm (Nat.le_of_ble_eq_true rfl) (Nat.le_of_ble_eq_true rfl)) ⟨by decide, by decide⟩ n_X3_adds rfl (xcat (Nat.le_of_ble_eq_true rfl)) (fun _ => ?_)
    refine xr_goto 115 F dX3_carriesOut_69 rfl ?_
    exact xr_vret F dX3_carriesOut_115
  · refine xr_iload_n 4 F dX3_carriesOut_72 rfl ?_
    refine xr_iconst (1 : Int32) F dX3_carriesOut_73 rfl ?_
    refine xr_icmp_ne 102 F dX3_carriesOut_74 rfl ?_ ?_
    · refine xr_aload_n 5 (r := (some a0)) F dX3_carriesOut_77 rfl ?_
      refine xr_iload_n 3 F dX3_carriesOut_78 rfl ?_
      refine xr_iload 2 F dX3_carriesOut_79 rfl ?_
      refine xr_iload 1 F dX3_carriesOut_81 rfl ?_
      refine xr_iload 0 F dX3_carriesOut_83 rfl ?_
      refine xr_aload_n 5 (r := (some a0)) F dX3_carriesOut_85 rfl ?_
      refine xr_iload_n 3 F dX3_carriesOut_86 rfl ?_
      refine xr_VI (y := yX3_leftOf) (As := [.int v16]) (r := (some a0)) F (hno _) dX3_carriesOut_87 (fun z => fX3_leftOf_m (xFG F) z v16) (Or.inl rfl) (ci := 39) (C := RX3) (T := TX3) rfl q3693 q3690 q3692 qs88 (xroom hRm (Nat.le_of_ble_eq_true rfl) (Nat.le_of_ble_eq_true rfl)) ⟨by decide, by decide⟩ n_X3_leftOf rfl (by simp [xrf_cat, xct_i, xct_l, xct_d, xct_r]) (fun v87 => ?_)
      refine xr_SI (y := yJ12_min) (As := [.int v42, .int v87]) F (hno _) dX3_carriesOut_90 (fJ12_min_m (xFG F) v42 v87) (Or.inl rfl) q345 q135 (Or.inl q3767) q344 (xroom hRm (Nat.le_of_ble_eq_true rfl) (Nat.le_of_ble_eq_true rfl)) ⟨by decide, by decide⟩ n_J12_min rfl (xcat (Nat.le_of_ble_eq_true rfl)) (fun v90 => ?_)
      refine xr_SI (y := yJ12_min) (As := [.int v35, .int v90]) F (hno _) dX3_carriesOut_93 (fJ12_min_m (xFG F) v35 v90) (Or.inl rfl) q345 q135 (Or.inl q3767) q344 (xroom hRm (Nat.le_of_ble_eq_true rfl) (Nat.le_of_ble_eq_true rfl)) ⟨by decide, by decide⟩ n_J12_min rfl (xcat (Nat.le_of_ble_eq_true rfl)) (fun v93 => ?_)
      refine xr_VV (y := yX3_takesOut) (As := [.int v16, .int v25, .int v93]) (r := (some a0)) F (hno _) dX3_carriesOut_96 (fun z => fX3_takesOut_m (xFG F) z v16 v25 v93) (Or.inl rfl) (ci := 39) (C := RX3) (T := TX3) rfl q3898 q3895 q3897 qs112 (xroom hRm (Nat.le_of_ble_eq_true rfl) (Nat.le_of_ble_eq_true rfl)) ⟨by decide, by decide⟩ n_X3_takesOut rfl (xcat (Nat.le_of_ble_eq_true rfl)) (fun _ => ?_)
      refine xr_goto 115 F dX3_carriesOut_99 rfl ?_
      exact xr_vret F dX3_carriesOut_115
    · refine xr_aload_n 5 (r := (some a0)) F dX3_carriesOut_102 rfl ?_
      refine xr_iload_n 3 F dX3_carriesOut_103 rfl ?_
      refine xr_iload 2 F dX3_carriesOut_104 rfl ?_
      refine xr_iload 2 F dX3_carriesOut_106 rfl ?_
      refine xr_iload 1 F dX3_carriesOut_108 rfl ?_
      refine xr_VI (y := yX3_sickens) (As := [.int v16, .int v25, .int v25, .int v35]) (r := (some a0)) F (hno _) dX3_carriesOut_110 (fun z => fX3_sickens_m (xFG F) z v16 v25 v25 v35) (Or.inl rfl) (ci := 39) (C := RX3) (T := TX3) rfl q3902 q3899 q3901 qs113 (xroom hRm (Nat.le_of_ble_eq_true rfl) (Nat.le_of_ble_eq_true rfl)) ⟨by decide, by decide⟩ n_X3_sickens rfl (xcat (Nat.le_of_ble_eq_true rfl)) (fun v110 => ?_)
      refine xs_i [] F dX3_carriesOut_113 hnL rfl rfl xk0 ?_
      exact xr_vret F dX3_carriesOut_115
