theorem fX3_must_m {l : Launch} {D : xD} {s0 : State} {b0 : Nat} {Γ : Nat → Option Nat} (G : xG l D s0 b0 Γ) (a0 : Nat) (p0 : Int32) (p1 : Int32) : xMeth l D s0 Γ yX3_must (Cond.code yX3_must cX3_must 3 none) (2) (32) [.ref a0, .int p0, .int p1] xeV (fX3_must a0 p0 p1) := by
  refine xMeth.of (lv0 := [(0, va_rf (some a0)), (1, .int p0), (2, .int p1)]) G (by decide +kernel) (Or.inl rfl) (Nat.le_of_ble_eq_true rfl) rfl (fun x F hnL hRm hmn ht e1 e2 e3 e4 => ?_)
  have hno : ∀ pc, xNo x pc := fun pc z hz => by rw [ht.1 rfl] at hz; cases hz
  unfold fX3_must
  refine xr_iload_n 1 F dX3_must_0 rfl ?_
  refine xr_if_ne 11 F dX3_must_1 rfl ?_ ?_
  · refine xr_aload_n 0 (r := (some a0)) F dX3_must_4 rfl ?_
    refine xr_VI (y := yX3_hasFailed) (As := []) (r := (some a0)) F (hno _) dX3_must_5 (fun z => fX3_hasFailed_m (xFG F) z) (Or.inl rfl) (ci := 39) (C := RX3) (T := TX3) rfl q3514 q3511 q3513 qs55 (xroom hRm (Nat.le_of_ble_eq_true rfl) (Nat.le_of_ble_eq_true rfl)) ⟨by decide, by decide⟩ n_X3_hasFailed rfl (xcat (Nat.le_of_ble_eq_true rfl)) (fun v5 => ?_)
    refine xr_if_eq 12 F dX3_must_8 rfl ?_ ?_
    · refine xr_aload_n 0 (r := (some a0)) F dX3_must_12 rfl ?_
      refine xr_aload_n 0 (r := (some a0)) F dX3_must_13 rfl ?_
      refine xr_gI (r := (some a0)) (ref := "ReserveLedgerModel") F dX3_must_14 (C := RX3) (T := TX3) (N := 25) rfl (by decide) (Or.inl q3408) (Or.inl rfl) (fun v14 => ?_)
      refine xr_put (r := (some a0)) (ref := "ReserveLedgerModel") F dX3_must_17 xk_39 (by decide) (Or.inl q3410) (Or.inl rfl) (Or.inl rfl) ⟨rfl, rfl⟩ ?_
      refine xr_aload_n 0 (r := (some a0)) F dX3_must_20 rfl ?_
      refine xr_iload_n 2 F dX3_must_21 rfl ?_
      refine xr_put (r := (some a0)) (ref := "ReserveLedgerModel") F dX3_must_22 xk_39 (by decide) (Or.inl q3411) (Or.inl rfl) (Or.inl rfl) ⟨rfl, rfl⟩ ?_
      exact xr_vret F dX3_must_25
    · exact xr_vret F dX3_must_11
  · exact xr_vret F dX3_must_11
theorem fX3_needs_m {l : Launch} {D : xD} {s0 : State} {b0 : Nat} {Γ : Nat → Option Nat} (G : xG l D s0 b0 Γ) (a0 : Nat) (p0 : Int32) : xMeth l D s0 Γ yX3_needs (Cond.code yX3_needs cX3_needs 3 none) (4) (76) [.ref a0, .int p0] xeV (fX3_needs a0 p0) := by
  refine xMeth.of (lv0 := [(0, va_rf (some a0)), (1, .int p0)]) G (by decide +kernel) (Or.inl rfl) (Nat.le_of_ble_eq_true rfl) rfl (fun x F hnL hRm hmn ht e1 e2 e3 e4 => ?_)
  have hno : ∀ pc, xNo x pc := fun pc z hz => by rw [ht.1 rfl] at hz; cases hz
  unfold fX3_needs
  refine xr_aload_n 0 (r := (some a0)) F dX3_needs_0 rfl ?_
  refine xr_iload_n 1 F dX3_needs_1 rfl ?_
  refine xr_VI (y := yX3_takesSign) (As := [.int p0]) (r := (some a0)) F (hno _) dX3_needs_2 (fun z => fX3_takesSign_m (xFG F) z p0) (Or.inl rfl) (ci := 39) (C := RX3) (T := TX3) rfl q3621 q3618 q3620 qs77 (xroom hRm (Nat.le_of_ble_eq_true rfl) (Nat.le_of_ble_eq_true rfl)) ⟨by decide, by decide⟩ n_X3_takesSign rfl (xcat (Nat.le_of_ble_eq_true rfl)) (fun v2 => ?_)
  refine xs_i_n [0] F dX3_needs_5 hnL rfl rfl (xk1 rfl rfl xk0) ?_
  refine xr_aload_n 1 (r := (some a0)) F dX3_needs_6 rfl ?_
  refine xr_iload_n 0 F dX3_needs_7 rfl ?_
  refine xr_iconst (1 : Int32) F dX3_needs_8 rfl ?_
  refine xr_VV (y := yX3_must) (As := [.int v2, .int (1 : Int32)]) (r := (some a0)) F (hno _) dX3_needs_9 (fun z => fX3_must_m (xFG F) z v2 (1 : Int32)) (Or.inl rfl) (ci := 39) (C := RX3) (T := TX3) rfl q3541 q3538 q3540 qs61 (xroom hRm (Nat.le_of_ble_eq_true rfl) (Nat.le_of_ble_eq_true rfl)) ⟨by decide, by decide⟩ n_X3_must rfl (xcat (Nat.le_of_ble_eq_true rfl)) (fun _ => ?_)
  exact xr_vret F dX3_needs_12
theorem fJ9_coder_m {l : Launch} {D : xD} {s0 : State} {b0 : Nat} {Γ : Nat → Option Nat} (G : xG l D s0 b0 Γ) (a0 : Nat) : xMeth l D s0 Γ yJ9_coder (Cond.code yJ9_coder cJ9_coder 1 (some .byte)) (1) (12) [.ref a0] xeI (fJ9_coder a0) := by
  refine xMeth.of (lv0 := [(0, va_rf (some a0))]) G (by decide +kernel) (Or.inl rfl) (Nat.le_of_ble_eq_true rfl) rfl (fun x F hnL hRm hmn ht e1 e2 e3 e4 => ?_)
  have hno : ∀ pc, xNo x pc := fun pc z hz => by rw [ht.1 rfl] at hz; cases hz
  unfold fJ9_coder
  refine xr_gsi (k := 1) F dJ9_coder_0 rfl q388 ?_
  refine xr_if_eq 13 F dJ9_coder_3 rfl ?_ ?_
  · refine xr_iconst (1 : Int32) F dJ9_coder_13 rfl ?_
    exact xr_zret F dJ9_coder_14 rfl
  · refine xr_aload_n 0 (r := (some a0)) F dJ9_coder_6 rfl ?_
    refine xr_gI (r := (some a0)) (ref := "java/lang/String") F dJ9_coder_7 (C := RJ9) (T := TJ9) (N := 4) rfl (by decide) (Or.inl q530) (Or.inl rfl) (fun v7 => ?_)
    refine xr_goto 14 F dJ9_coder_10 rfl ?_
    exact xr_nret F dJ9_coder_14
theorem fJ9_length_m {l : Launch} {D : xD} {s0 : State} {b0 : Nat} {Γ : Nat → Option Nat} (G : xG l D s0 b0 Γ) (a0 : Nat) : xMeth l D s0 Γ yJ9_length (Cond.code yJ9_length cJ9_length 1 (some .int)) (2) (32) [.ref a0] xeI (fJ9_length a0) := by
  refine xMeth.of (lv0 := [(0, va_rf (some a0))]) G (by decide +kernel) (Or.inl rfl) (Nat.le_of_ble_eq_true rfl) rfl (fun x F hnL hRm hmn ht e1 e2 e3 e4 => ?_)
  have hno : ∀ pc, xNo x pc := fun pc z hz => by rw [ht.1 rfl] at hz; cases hz
  unfold fJ9_length
  refine xr_aload_n 0 (r := (some a0)) F dJ9_length_0 rfl ?_
  refine xr_gR (r := (some a0)) (ref := "java/lang/String") F dJ9_length_1 (C := RJ9) (T := TJ9) (N := 4) rfl (by decide) (Or.inl q529) (Or.inl rfl) (fun v1 => ?_)
  refine xr_len (r := v1) F dJ9_length_4 (fun v4 => ?_)
  refine xr_aload_n 0 (r := (some a0)) F dJ9_length_5 rfl ?_
  refine xr_VI (y := yJ9_coder) (As := []) (r := (some a0)) F (hno _) dJ9_length_6 (fun z => fJ9_coder_m (xFG F) z) (Or.inl rfl) (ci := 5) (C := RJ9) (T := TJ9) rfl q387 q384 q385 q386 (xroom hRm (Nat.le_of_ble_eq_true rfl) (Nat.le_of_ble_eq_true rfl)) ⟨by decide, by decide⟩ n_J9_coder rfl (xcat (Nat.le_of_ble_eq_true rfl)) (fun v6 => ?_)
  refine xr_ishr F dJ9_length_9 ?_
  exact xr_iret F dJ9_length_10
theorem fJ9_isLatin1_m {l : Launch} {D : xD} {s0 : State} {b0 : Nat} {Γ : Nat → Option Nat} (G : xG l D s0 b0 Γ) (a0 : Nat) : xMeth l D s0 Γ yJ9_isLatin1 (Cond.code yJ9_isLatin1 cJ9_isLatin1 1 (some .boolean)) (1) (12) [.ref a0] xeI (fJ9_isLatin1 a0) := by
  refine xMeth.of (lv0 := [(0, va_rf (some a0))]) G (by decide +kernel) (Or.inl rfl) (Nat.le_of_ble_eq_true rfl) rfl (fun x F hnL hRm hmn ht e1 e2 e3 e4 => ?_)
  have hno : ∀ pc, xNo x pc := fun pc z hz => by rw [ht.1 rfl] at hz; cases hz
  unfold fJ9_isLatin1
  refine xr_gsi (k := 1) F dJ9_isLatin1_0 rfl q388 ?_
  refine xr_if_eq 17 F dJ9_isLatin1_3 rfl ?_ ?_
  · refine xr_iconst (0 : Int32) F dJ9_isLatin1_17 rfl ?_
    exact xr_zret F dJ9_isLatin1_18 rfl
  · refine xr_aload_n 0 (r := (some a0)) F dJ9_isLatin1_6 rfl ?_
    refine xr_gI (r := (some a0)) (ref := "java/lang/String") F dJ9_isLatin1_7 (C := RJ9) (T := TJ9) (N := 4) rfl (by decide) (Or.inl q530) (Or.inl rfl) (fun v7 => ?_)
    refine xr_if_ne 17 F dJ9_isLatin1_10 rfl ?_ ?_
    · refine xr_iconst (1 : Int32) F dJ9_isLatin1_13 rfl ?_
      refine xr_goto 18 F dJ9_isLatin1_14 rfl ?_
      exact xr_zret F dJ9_isLatin1_18 rfl
    · refine xr_iconst (0 : Int32) F dJ9_isLatin1_17 rfl ?_
      exact xr_zret F dJ9_isLatin1_18 rfl
theorem fJ14_checkIndex_p9_ok {x : xC} (F : xF x RJ14 cJ14_checkIndex (some .int)) (hnL : xnL x = 3) (hRm : ∃ dc ds, x.2.2.2.1 = { frames := 1, cells := dc, slots := ds, locals := 12 }) (hno : ∀ pc, xNo x pc) (hmn : xmn x = "checkIndex" ∧ xmy x yJ14_checkIndex) (l0 : Int32) (l1 : Int32) (l2 : Option Nat) : xI x xeI 9 [(0, .int l0), (1, .int l1), (2, va_rf l2)] [] (fJ14_checkIndex_p9 l0 l1 l2) := by
  unfold fJ14_checkIndex_p9
  refine xr_aload_n 2 (r := l2) F dJ14_checkIndex_9 rfl ?_
  refine xr_iload_n 0 F dJ14_checkIndex_10 rfl ?_
  refine xr_iload_n 1 F dJ14_checkIndex_11 rfl ?_
  exact xI.stuck
theorem fJ14_checkIndex_m {l : Launch} {D : xD} {s0 : State} {b0 : Nat} {Γ : Nat → Option Nat} (G : xG l D s0 b0 Γ) (p0 : Int32) (p1 : Int32) (p2 : Option Nat) : xMeth l D s0 Γ yJ14_checkIndex (Cond.code yJ14_checkIndex cJ14_checkIndex 3 (some .int)) (1) (12) [.int p0, .int p1, va_rf p2] xeI (fJ14_checkIndex p0 p1 p2) := by
  refine xMeth.of (lv0 := [(0, .int p0), (1, .int p1), (2, va_rf p2)]) G (by decide +kernel) (Or.inl rfl) (by simp [lg_sl, xrf_cat, xct_i, xct_l, xct_d, xct_r]) (by simp [lv_args, xrf_cat, xct_i, xct_l, xct_d, xct_r, xrf_some]) (fun x F hnL hRm hmn ht e1 e2 e3 e4 => ?_)
  have hno : ∀ pc, xNo x pc := fun pc z hz => by rw [ht.1 rfl] at hz; cases hz
  unfold fJ14_checkIndex
  refine xr_iload_n 0 F dJ14_checkIndex_0 rfl ?_
  refine xr_if_lt 9 F dJ14_checkIndex_1 rfl ?_ ?_
  · exact xI.sub [0, 1, 2] rfl (fJ14_checkIndex_p9_ok F hnL hRm hno hmn p0 p1 p2)
  · refine xr_iload_n 0 F dJ14_checkIndex_4 rfl ?_
    refine xr_iload_n 1 F dJ14_checkIndex_5 rfl ?_
    refine xr_icmp_lt 16 F dJ14_checkIndex_6 rfl ?_ ?_
    · refine xr_iload_n 0 F dJ14_checkIndex_16 rfl ?_
      exact xr_iret F dJ14_checkIndex_17
    · exact xI.sub [0, 1, 2] rfl (fJ14_checkIndex_p9_ok F hnL hRm hno hmn p0 p1 p2)
theorem fJ9_checkIndex_m {l : Launch} {D : xD} {s0 : State} {b0 : Nat} {Γ : Nat → Option Nat} (G : xG l D s0 b0 Γ) (p0 : Int32) (p1 : Int32) : xMeth l D s0 Γ yJ9_checkIndex (Cond.code yJ9_checkIndex cJ9_checkIndex 2 none) (2) (34) [.int p0, .int p1] xeV (fJ9_checkIndex p0 p1) := by
  refine xMeth.of (lv0 := [(0, .int p0), (1, .int p1)]) G (by decide +kernel) (Or.inl rfl) (Nat.le_of_ble_eq_true rfl) rfl (fun x F hnL hRm hmn ht e1 e2 e3 e4 => ?_)
  have hno : ∀ pc, xNo x pc := fun pc z hz => by rw [ht.1 rfl] at hz; cases hz
  unfold fJ9_checkIndex
  refine xr_iload_n 0 F dJ9_checkIndex_0 rfl ?_
  refine xr_iload_n 1 F dJ9_checkIndex_1 rfl ?_
  refine xr_gs (k := 17) F dJ9_checkIndex_2 rfl q366 (fun v2 => ?_)
  refine xr_SI (y := yJ14_checkIndex) (As := [.int p0, .int p1, va_rf v2]) F (hno _) dJ9_checkIndex_5 (fJ14_checkIndex_m (xFG F) p0 p1 v2) (Or.inl rfl) q682 q138 (Or.inl q680) q681 (xroom hRm (Nat.le_of_ble_eq_true rfl) (Nat.le_of_ble_eq_true rfl)) ⟨by decide, by decide⟩ n_J14_checkIndex rfl (xcat (Nat.le_of_ble_eq_true rfl)) (fun v5 => ?_)
  refine xr_pop F dJ9_checkIndex_8 rfl ?_
  exact xr_vret F dJ9_checkIndex_9
theorem fJ15_charAt_m {l : Launch} {D : xD} {s0 : State} {b0 : Nat} {Γ : Nat → Option Nat} (G : xG l D s0 b0 Γ) (p0 : Option Nat) (p1 : Int32) : xMeth l D s0 Γ yJ15_charAt (Cond.code yJ15_charAt cJ15_charAt 2 (some .char)) (3) (55) [va_rf p0, .int p1] xeI (fJ15_charAt p0 p1) := by
  refine xMeth.of (lv0 := [(0, va_rf p0), (1, .int p1)]) G (by decide +kernel) (Or.inl rfl) (by simp [lg_sl, xrf_cat, xct_i, xct_l, xct_d, xct_r]) (by simp [lv_args, xrf_cat, xct_i, xct_l, xct_d, xct_r, xrf_some]) (fun x F hnL hRm hmn ht e1 e2 e3 e4 => ?_)
  have hno : ∀ pc, xNo x pc := fun pc z hz => by rw [ht.1 rfl] at hz; cases hz
  unfold fJ15_charAt
  refine xr_iload_n 1 F dJ15_charAt_0 rfl ?_
  refine xr_aload_n 0 (r := p0) F dJ15_charAt_1 rfl ?_
  refine xr_len (r := p0) F dJ15_charAt_2 (fun v2 => ?_)
  refine xr_SV (y := yJ9_checkIndex) (As := [.int p1, .int v2]) F (hno _) dJ15_charAt_3 (fJ9_checkIndex_m (xFG F) p1 v2) (Or.inl rfl) q679 q132 (Or.inl q1734) q678 (xroom hRm (Nat.le_of_ble_eq_true rfl) (Nat.le_of_ble_eq_true rfl)) ⟨by decide, by decide⟩ n_J9_checkIndex rfl (xcat (Nat.le_of_ble_eq_true rfl)) (fun _ => ?_)
  refine xr_aload_n 0 (r := p0) F dJ15_charAt_6 rfl ?_
  refine xr_iload_n 1 F dJ15_charAt_7 rfl ?_
  refine xr_bald (r := p0) F dJ15_charAt_8 (fun v8 => ?_)
  refine xr_sipush (255 : Int32) F dJ15_charAt_9 rfl ?_
  refine xr_iand F dJ15_charAt_12 ?_
  refine xr_i2c F dJ15_charAt_13 ?_
  exact xr_nret F dJ15_charAt_14
theorem fJ9_charAt_m {l : Launch} {D : xD} {s0 : State} {b0 : Nat} {Γ : Nat → Option Nat} (G : xG l D s0 b0 Γ) (a0 : Nat) (p0 : Int32) : xMeth l D s0 Γ yJ9_charAt (Cond.code yJ9_charAt cJ9_charAt 2 (some .char)) (4) (76) [.ref a0, .int p0] xeI (fJ9_charAt a0 p0) := by
  refine xMeth.of (lv0 := [(0, va_rf (some a0)), (1, .int p0)]) G (by decide +kernel) (Or.inl rfl) (Nat.le_of_ble_eq_true rfl) rfl (fun x F hnL hRm hmn ht e1 e2 e3 e4 => ?_)
  have hno : ∀ pc, xNo x pc := fun pc z hz => by rw [ht.1 rfl] at hz; cases hz
  unfold fJ9_charAt
  refine xr_aload_n 0 (r := (some a0)) F dJ9_charAt_0 rfl ?_
  refine xr_VI (y := yJ9_isLatin1) (As := []) (r := (some a0)) F (hno _) dJ9_charAt_1 (fun z => fJ9_isLatin1_m (xFG F) z) (Or.inl rfl) (ci := 5) (C := RJ9) (T := TJ9) rfl q1730 q1727 q1728 q1729 (xroom hRm (Nat.le_of_ble_eq_true rfl) (Nat.le_of_ble_eq_true rfl)) ⟨by decide, by decide⟩ n_J9_isLatin1 rfl (xcat (Nat.le_of_ble_eq_true rfl)) (fun v1 => ?_)
  refine xr_if_eq 16 F dJ9_charAt_4 rfl ?_ ?_
  · refine xr_aload_n 0 (r := (some a0)) F dJ9_charAt_16 rfl ?_
    refine xr_gR (r := (some a0)) (ref := "java/lang/String") F dJ9_charAt_17 (C := RJ9) (T := TJ9) (N := 4) rfl (by decide) (Or.inl q529) (Or.inl rfl) (fun v17 => ?_)
    refine xr_iload_n 1 F dJ9_charAt_20 rfl ?_
    exact xI.stuck
  · refine xr_aload_n 0 (r := (some a0)) F dJ9_charAt_7 rfl ?_
    refine xr_gR (r := (some a0)) (ref := "java/lang/String") F dJ9_charAt_8 (C := RJ9) (T := TJ9) (N := 4) rfl (by decide) (Or.inl q529) (Or.inl rfl) (fun v8 => ?_)
    refine xr_iload_n 1 F dJ9_charAt_11 rfl ?_
    refine xr_SI (y := yJ15_charAt) (As := [va_rf v8, .int p0]) F (hno _) dJ9_charAt_12 (fJ15_charAt_m (xFG F) v8 p0) (Or.inl rfl) q1733 q139 (Or.inl q1731) q1732 (xroom hRm (Nat.le_of_ble_eq_true rfl) (Nat.le_of_ble_eq_true rfl)) ⟨by decide, by decide⟩ n_J15_charAt rfl (xcat (Nat.le_of_ble_eq_true rfl)) (fun v12 => ?_)
    exact xr_nret F dJ9_charAt_15
theorem fX3_wordHere_p45_ok {x : xC} (F : xF x RX3 cX3_wordHere (some .int)) (hnL : xnL x = 2) (hRm : ∃ dc ds, x.2.2.2.1 = { frames := 3, cells := dc, slots := ds, locals := 54 }) (hno : ∀ pc, xNo x pc) (hmn : xmn x = "wordHere" ∧ xmy x yX3_wordHere) (l0 : Nat) (l1 : Int32) : xI x xeI 45 [(0, va_rf (some l0)), (1, .int l1)] [] (fX3_wordHere_p45 l0 l1) := by
  unfold fX3_wordHere_p45
  refine xr_iload_n 1 F dX3_wordHere_45 rfl ?_
  refine xr_aload_n 0 (r := (some l0)) F dX3_wordHere_46 rfl ?_
  refine xr_gI (r := (some l0)) (ref := "ReserveLedgerModel") F dX3_wordHere_47 (C := RX3) (T := TX3) (N := 25) rfl (by decide) (Or.inl q3407) (Or.inl rfl) (fun v47 => ?_)
  refine xr_isub F dX3_wordHere_50 ?_
  exact xr_iret F dX3_wordHere_51
theorem fX3_wordHere_p9_ok {x : xC} (F : xF x RX3 cX3_wordHere (some .int)) (hnL : xnL x = 2) (hRm : ∃ dc ds, x.2.2.2.1 = { frames := 3, cells := dc, slots := ds, locals := 54 }) (hno : ∀ pc, xNo x pc) (hmn : xmn x = "wordHere" ∧ xmy x yX3_wordHere) : ∀ (n : Nat) (l0 : Nat) (l1 : Int32), xI x xeI 9 [(0, va_rf (some l0)), (1, .int l1)] [] (fX3_wordHere_p9 n l0 l1) := by
  intro n
  induction n with
  | zero => intro l0 l1; exact xI.stuck
  | succ n ih =>
    intro l0 l1
    unfold fX3_wordHere_p9
    refine xr_iload_n 1 F dX3_wordHere_9 rfl ?_
    refine xr_aload_n 0 (r := (some l0)) F dX3_wordHere_10 rfl ?_
    refine xr_gI (r := (some l0)) (ref := "ReserveLedgerModel") F dX3_wordHere_11 (C := RX3) (T := TX3) (N := 25) rfl (by decide) (Or.inl q3409) (Or.inl rfl) (fun v11 => ?_)
    refine xr_icmp_ge 45 F dX3_wordHere_14 rfl ?_ ?_
    · exact xI.sub [0, 1] rfl (fX3_wordHere_p45_ok F hnL hRm hno hmn l0 l1)
    · refine xr_aload_n 0 (r := (some l0)) F dX3_wordHere_17 rfl ?_
      refine xr_gR (r := (some l0)) (ref := "ReserveLedgerModel") F dX3_wordHere_18 (C := RX3) (T := TX3) (N := 25) rfl (by decide) (Or.inl q3404) (Or.inl rfl) (fun v18 => ?_)
      refine xr_iload_n 1 F dX3_wordHere_21 rfl ?_
      refine xr_bald (r := v18) F dX3_wordHere_22 (fun v22 => ?_)
      refine xr_bipush (97 : Int32) F dX3_wordHere_23 rfl ?_
      refine xr_icmp_lt 45 F dX3_wordHere_25 rfl ?_ ?_
      · exact xI.sub [0, 1] rfl (fX3_wordHere_p45_ok F hnL hRm hno hmn l0 l1)
      · refine xr_aload_n 0 (r := (some l0)) F dX3_wordHere_28 rfl ?_
        refine xr_gR (r := (some l0)) (ref := "ReserveLedgerModel") F dX3_wordHere_29 (C := RX3) (T := TX3) (N := 25) rfl (by decide) (Or.inl q3404) (Or.inl rfl) (fun v29 => ?_)
        refine xr_iload_n 1 F dX3_wordHere_32 rfl ?_
        refine xr_bald (r := v29) F dX3_wordHere_33 (fun v33 => ?_)
        refine xr_bipush (122 : Int32) F dX3_wordHere_34 rfl ?_
        refine xr_icmp_gt 45 F dX3_wordHere_36 rfl ?_ ?_
        · exact xI.sub [0, 1] rfl (fX3_wordHere_p45_ok F hnL hRm hno hmn l0 l1)
        · refine xs_inc [1, 0] F dX3_wordHere_39 rfl hnL rfl rfl (xk2 rfl (xrf_cat _) xk0) (fun x1_39 => ?_)
          refine xr_goto 9 F dX3_wordHere_42 rfl ?_
          exact xI.sub [1, 0] rfl (ih l0 x1_39)
theorem fX3_wordHere_m {l : Launch} {D : xD} {s0 : State} {b0 : Nat} {Γ : Nat → Option Nat} (G : xG l D s0 b0 Γ) (a0 : Nat) : xMeth l D s0 Γ yX3_wordHere (Cond.code yX3_wordHere cX3_wordHere 2 (some .int)) (3) (54) [.ref a0] xeI (fX3_wordHere a0) := by
  refine xMeth.of (lv0 := [(0, va_rf (some a0))]) G (by decide +kernel) (Or.inl rfl) (Nat.le_of_ble_eq_true rfl) rfl (fun x F hnL hRm hmn ht e1 e2 e3 e4 => ?_)
  have hno : ∀ pc, xNo x pc := fun pc z hz => by rw [ht.1 rfl] at hz; cases hz
  unfold fX3_wordHere
  refine xr_aload_n 0 (r := (some a0)) F dX3_wordHere_0 rfl ?_
  refine xr_VV (y := yX3_blanks) (As := []) (r := (some a0)) F (hno _) dX3_wordHere_1 (fun z => fX3_blanks_m (xFG F) z) (Or.inl rfl) (ci := 39) (C := RX3) (T := TX3) rfl q3510 q3507 q3509 qs54 (xroom hRm (Nat.le_of_ble_eq_true rfl) (Nat.le_of_ble_eq_true rfl)) ⟨by decide, by decide⟩ n_X3_blanks rfl (xcat (Nat.le_of_ble_eq_true rfl)) (fun _ => ?_)
  refine xr_aload_n 0 (r := (some a0)) F dX3_wordHere_4 rfl ?_
  refine xr_gI (r := (some a0)) (ref := "ReserveLedgerModel") F dX3_wordHere_5 (C := RX3) (T := TX3) (N := 25) rfl (by decide) (Or.inl q3407) (Or.inl rfl) (fun v5 => ?_)
  refine xs_i_n [0] F dX3_wordHere_8 hnL rfl rfl (xk2 rfl (xrf_cat _) xk0) ?_
  exact xI.sub [1, 0] rfl (fX3_wordHere_p9_ok F hnL hRm hno hmn xFU a0 v5)
theorem fX3_takes_p62_ok {x : xC} (F : xF x RX3 cX3_takes (some .boolean)) (hnL : xnL x = 4) (hRm : ∃ dc ds, x.2.2.2.1 = { frames := 5, cells := dc, slots := ds, locals := 97 }) (hno : ∀ pc, xNo x pc) (hmn : xmn x = "takes" ∧ xmy x yX3_takes) {k26 : Nat → Option Nat → Int32 → Int32 → xM (Int32)} (hk26 : ∀ (l0 : Nat) (l1 : Option Nat) (l2 : Int32) (l3 : Int32), xI x xeI 26 [(0, va_rf (some l0)), (1, va_rf l1), (2, .int l2), (3, .int l3)] [] (k26 l0 l1 l2 l3)) (l0 : Nat) (l1 : Option Nat) (l3 : Int32) (s0 : Int32) : xI x xeI 62 [(0, va_rf (some l0)), (1, va_rf l1), (3, .int l3)] [.int s0] (fX3_takes_p62 k26 l0 l1 l3 s0) := by
  unfold fX3_takes_p62
  refine xs_i_n [0, 1, 2] F dX3_takes_62 hnL rfl rfl (xk1 rfl rfl (xk2 rfl (xrf_cat _) (xk1 rfl rfl xk0))) ?_
  refine xs_inc [3, 0, 1, 2] F dX3_takes_63 rfl hnL rfl rfl (xk2 rfl rfl (xk1 rfl rfl (xk1 rfl rfl xk0))) (fun x3_63 => ?_)
  refine xr_goto 26 F dX3_takes_66 rfl ?_
  exact xI.sub [2, 3, 1, 0] rfl (hk26 l0 l1 s0 x3_63)
theorem fX3_takes_p69_ok {x : xC} (F : xF x RX3 cX3_takes (some .boolean)) (hnL : xnL x = 4) (hRm : ∃ dc ds, x.2.2.2.1 = { frames := 5, cells := dc, slots := ds, locals := 97 }) (hno : ∀ pc, xNo x pc) (hmn : xmn x = "takes" ∧ xmy x yX3_takes) (l0 : Nat) (l1 : Option Nat) (l2 : Int32) : xI x xeI 69 [(0, va_rf (some l0)), (1, va_rf l1), (2, .int l2)] [] (fX3_takes_p69 l0 l1 l2) := by
  unfold fX3_takes_p69
  refine xr_iload_n 2 F dX3_takes_69 rfl ?_
  refine xr_if_eq 86 F dX3_takes_70 rfl ?_ ?_
  · refine xr_iload_n 2 F dX3_takes_86 rfl ?_
    exact xr_nret F dX3_takes_87
  · refine xr_aload_n 0 (r := (some l0)) F dX3_takes_73 rfl ?_
    refine xr_dup F dX3_takes_74 (xrf_cat _) ?_
    refine xr_gI (r := (some l0)) (ref := "ReserveLedgerModel") F dX3_takes_75 (C := RX3) (T := TX3) (N := 25) rfl (by decide) (Or.inl q3407) (Or.inl rfl) (fun v75 => ?_)
    refine xr_aload_n 1 (r := l1) F dX3_takes_78 rfl ?_
    refine xr_VI (y := yJ9_length) (As := []) (r := l1) F (hno _) dX3_takes_79 (fun z => fJ9_length_m (xFG F) z) (Or.inl rfl) (ci := 5) (C := RJ9) (T := TJ9) rfl q383 q3532 q381 q382 (xroom hRm (Nat.le_of_ble_eq_true rfl) (Nat.le_of_ble_eq_true rfl)) ⟨by decide, by decide⟩ n_J9_length rfl (xcat (Nat.le_of_ble_eq_true rfl)) (fun v79 => ?_)
    refine xr_iadd F dX3_takes_82 ?_
    refine xr_put (r := (some l0)) (ref := "ReserveLedgerModel") F dX3_takes_83 xk_39 (by decide) (Or.inl q3407) (Or.inl rfl) (Or.inl rfl) ⟨rfl, rfl⟩ ?_
    refine xr_iload_n 2 F dX3_takes_86 rfl ?_
    exact xr_nret F dX3_takes_87
theorem fX3_takes_p26_ok {x : xC} (F : xF x RX3 cX3_takes (some .boolean)) (hnL : xnL x = 4) (hRm : ∃ dc ds, x.2.2.2.1 = { frames := 5, cells := dc, slots := ds, locals := 97 }) (hno : ∀ pc, xNo x pc) (hmn : xmn x = "takes" ∧ xmy x yX3_takes) : ∀ (n : Nat) (l0 : Nat) (l1 : Option Nat) (l2 : Int32) (l3 : Int32), xI x xeI 26 [(0, va_rf (some l0)), (1, va_rf l1), (2, .int l2), (3, .int l3)] [] (fX3_takes_p26 n l0 l1 l2 l3) := by
  intro n
  induction n with
  | zero => intro l0 l1 l2 l3; exact xI.stuck
  | succ n ih =>
    intro l0 l1 l2 l3
    unfold fX3_takes_p26
    refine xr_iload_n 2 F dX3_takes_26 rfl ?_
    refine xr_if_eq 69 F dX3_takes_27 rfl ?_ ?_
    · exact xI.sub [0, 1, 2] rfl (fX3_takes_p69_ok F hnL hRm hno hmn l0 l1 l2)
    · refine xr_iload_n 3 F dX3_takes_30 rfl ?_
      refine xr_aload_n 1 (r := l1) F dX3_takes_31 rfl ?_
      refine xr_VI (y := yJ9_length) (As := []) (r := l1) F (hno _) dX3_takes_32 (fun z => fJ9_length_m (xFG F) z) (Or.inl rfl) (ci := 5) (C := RJ9) (T := TJ9) rfl q383 q3532 q381 q382 (xroom hRm (Nat.le_of_ble_eq_true rfl) (Nat.le_of_ble_eq_true rfl)) ⟨by decide, by decide⟩ n_J9_length rfl (xcat (Nat.le_of_ble_eq_true rfl)) (fun v32 => ?_)
      refine xr_icmp_ge 69 F dX3_takes_35 rfl ?_ ?_
      · exact xI.sub [0, 1, 2] rfl (fX3_takes_p69_ok F hnL hRm hno hmn l0 l1 l2)
      · refine xr_aload_n 0 (r := (some l0)) F dX3_takes_38 rfl ?_
        refine xr_gR (r := (some l0)) (ref := "ReserveLedgerModel") F dX3_takes_39 (C := RX3) (T := TX3) (N := 25) rfl (by decide) (Or.inl q3404) (Or.inl rfl) (fun v39 => ?_)
        refine xr_aload_n 0 (r := (some l0)) F dX3_takes_42 rfl ?_
        refine xr_gI (r := (some l0)) (ref := "ReserveLedgerModel") F dX3_takes_43 (C := RX3) (T := TX3) (N := 25) rfl (by decide) (Or.inl q3407) (Or.inl rfl) (fun v43 => ?_)
        refine xr_iload_n 3 F dX3_takes_46 rfl ?_
        refine xr_iadd F dX3_takes_47 ?_
        refine xr_bald (r := v39) F dX3_takes_48 (fun v48 => ?_)
        refine xr_aload_n 1 (r := l1) F dX3_takes_49 rfl ?_
        refine xr_iload_n 3 F dX3_takes_50 rfl ?_
        refine xr_VI (y := yJ9_charAt) (As := [.int l3]) (r := l1) F (hno _) dX3_takes_51 (fun z => fJ9_charAt_m (xFG F) z l3) (Or.inl rfl) (ci := 5) (C := RJ9) (T := TJ9) rfl q1726 q3533 q1724 q1725 (xroom hRm (Nat.le_of_ble_eq_true rfl) (Nat.le_of_ble_eq_true rfl)) ⟨by decide, by decide⟩ n_J9_charAt rfl (xcat (Nat.le_of_ble_eq_true rfl)) (fun v51 => ?_)
        refine xr_icmp_ne 61 F dX3_takes_54 rfl ?_ ?_
        · refine xr_iconst (1 : Int32) F dX3_takes_57 rfl ?_
          refine xr_goto 62 F dX3_takes_58 rfl ?_
          exact xI.sub [0, 1, 3] rfl (fX3_takes_p62_ok F hnL hRm hno hmn ih l0 l1 l3 (1 : Int32))
        · refine xr_iconst (0 : Int32) F dX3_takes_61 rfl ?_
          exact xI.sub [0, 1, 3] rfl (fX3_takes_p62_ok F hnL hRm hno hmn ih l0 l1 l3 (0 : Int32))
theorem fX3_takes_p23_ok {x : xC} (F : xF x RX3 cX3_takes (some .boolean)) (hnL : xnL x = 4) (hRm : ∃ dc ds, x.2.2.2.1 = { frames := 5, cells := dc, slots := ds, locals := 97 }) (hno : ∀ pc, xNo x pc) (hmn : xmn x = "takes" ∧ xmy x yX3_takes) (l0 : Nat) (l1 : Option Nat) (s0 : Int32) : xI x xeI 23 [(0, va_rf (some l0)), (1, va_rf l1)] [.int s0] (fX3_takes_p23 l0 l1 s0) := by
  unfold fX3_takes_p23
  refine xs_i_n [0, 1] F dX3_takes_23 hnL rfl rfl (xk1 rfl rfl (xk2 rfl (xrf_cat _) xk0)) ?_
  refine xr_iconst (0 : Int32) F dX3_takes_24 rfl ?_
  refine xr_letI (fun x3_25 => ?_)
  refine xs_i_n [0, 1, 2] F dX3_takes_25 hnL rfl rfl (xk2 rfl rfl (xk1 rfl rfl (xk1 rfl rfl xk0))) ?_
  exact xI.sub [2, 3, 1, 0] rfl (fX3_takes_p26_ok F hnL hRm hno hmn xFU l0 l1 s0 x3_25)
theorem fX3_takes_p22_ok {x : xC} (F : xF x RX3 cX3_takes (some .boolean)) (hnL : xnL x = 4) (hRm : ∃ dc ds, x.2.2.2.1 = { frames := 5, cells := dc, slots := ds, locals := 97 }) (hno : ∀ pc, xNo x pc) (hmn : xmn x = "takes" ∧ xmy x yX3_takes) (l0 : Nat) (l1 : Option Nat) : xI x xeI 22 [(0, va_rf (some l0)), (1, va_rf l1)] [] (fX3_takes_p22 l0 l1) := by
  unfold fX3_takes_p22
  refine xr_iconst (0 : Int32) F dX3_takes_22 rfl ?_
  exact xI.sub [0, 1] rfl (fX3_takes_p23_ok F hnL hRm hno hmn l0 l1 (0 : Int32))
theorem fX3_takes_m {l : Launch} {D : xD} {s0 : State} {b0 : Nat} {Γ : Nat → Option Nat} (G : xG l D s0 b0 Γ) (a0 : Nat) (p0 : Option Nat) : xMeth l D s0 Γ yX3_takes (Cond.code yX3_takes cX3_takes 4 (some .boolean)) (5) (97) [.ref a0, va_rf p0] xeI (fX3_takes a0 p0) := by
  refine xMeth.of (lv0 := [(0, va_rf (some a0)), (1, va_rf p0)]) G (by decide +kernel) (Or.inl rfl) (by simp [lg_sl, xrf_cat, xct_i, xct_l, xct_d, xct_r]) (by simp [lv_args, xrf_cat, xct_i, xct_l, xct_d, xct_r, xrf_some]) (fun x F hnL hRm hmn ht e1 e2 e3 e4 => ?_)
  have hno : ∀ pc, xNo x pc := fun pc z hz => by rw [ht.1 rfl] at hz; cases hz
  unfold fX3_takes
  refine xr_aload_n 0 (r := (some a0)) F dX3_takes_0 rfl ?_
  refine xr_VI (y := yX3_hasFailed) (As := []) (r := (some a0)) F (hno _) dX3_takes_1 (fun z => fX3_hasFailed_m (xFG F) z) (Or.inl rfl) (ci := 39) (C := RX3) (T := TX3) rfl q3514 q3511 q3513 qs55 (xroom hRm (Nat.le_of_ble_eq_true rfl) (Nat.le_of_ble_eq_true rfl)) ⟨by decide, by decide⟩ n_X3_hasFailed rfl (xcat (Nat.le_of_ble_eq_true rfl)) (fun v1 => ?_)
  refine xr_if_ne 22 F dX3_takes_4 rfl ?_ ?_
  · refine xr_aload_n 0 (r := (some a0)) F dX3_takes_7 rfl ?_
    refine xr_VI (y := yX3_wordHere) (As := []) (r := (some a0)) F (hno _) dX3_takes_8 (fun z => fX3_wordHere_m (xFG F) z) (Or.inl rfl) (ci := 39) (C := RX3) (T := TX3) rfl q3531 q3528 q3530 qs59 (xroom hRm (Nat.le_of_ble_eq_true rfl) (Nat.le_of_ble_eq_true rfl)) ⟨by decide, by decide⟩ n_X3_wordHere rfl (xcat (Nat.le_of_ble_eq_true rfl)) (fun v8 => ?_)
    refine xr_aload_n 1 (r := p0) F dX3_takes_11 rfl ?_
    refine xr_VI (y := yJ9_length) (As := []) (r := p0) F (hno _) dX3_takes_12 (fun z => fJ9_length_m (xFG F) z) (Or.inl rfl) (ci := 5) (C := RJ9) (T := TJ9) rfl q383 q3532 q381 q382 (xroom hRm (Nat.le_of_ble_eq_true rfl) (Nat.le_of_ble_eq_true rfl)) ⟨by decide, by decide⟩ n_J9_length rfl (xcat (Nat.le_of_ble_eq_true rfl)) (fun v12 => ?_)
    refine xr_icmp_ne 22 F dX3_takes_15 rfl ?_ ?_
    · refine xr_iconst (1 : Int32) F dX3_takes_18 rfl ?_
      refine xr_goto 23 F dX3_takes_19 rfl ?_
      exact xI.sub [0, 1] rfl (fX3_takes_p23_ok F hnL hRm hno hmn a0 p0 (1 : Int32))
    · exact xI.sub [0, 1] rfl (fX3_takes_p22_ok F hnL hRm hno hmn a0 p0)
  · exact xI.sub [0, 1] rfl (fX3_takes_p22_ok F hnL hRm hno hmn a0 p0)
theorem fX3_puts_m {l : Launch} {D : xD} {s0 : State} {b0 : Nat} {Γ : Nat → Option Nat} (G : xG l D s0 b0 Γ) (a0 : Nat) (p0 : Int32) : xMeth l D s0 Γ yX3_puts (Cond.code yX3_puts cX3_puts 2 none) (2) (32) [.ref a0, .int p0] xeV (fX3_puts a0 p0) := by
  refine xMeth.of (lv0 := [(0, va_rf (some a0)), (1, .int p0)]) G (by decide +kernel) (Or.inl rfl) (Nat.le_of_ble_eq_true rfl) rfl (fun x F hnL hRm hmn ht e1 e2 e3 e4 => ?_)
  have hno : ∀ pc, xNo x pc := fun pc z hz => by rw [ht.1 rfl] at hz; cases hz
  unfold fX3_puts
  refine xr_aload_n 0 (r := (some a0)) F dX3_puts_0 rfl ?_
  refine xr_VI (y := yX3_hasFailed) (As := []) (r := (some a0)) F (hno _) dX3_puts_1 (fun z => fX3_hasFailed_m (xFG F) z) (Or.inl rfl) (ci := 39) (C := RX3) (T := TX3) rfl q3514 q3511 q3513 qs55 (xroom hRm (Nat.le_of_ble_eq_true rfl) (Nat.le_of_ble_eq_true rfl)) ⟨by decide, by decide⟩ n_X3_hasFailed rfl (xcat (Nat.le_of_ble_eq_true rfl)) (fun v1 => ?_)
  refine xr_if_eq 8 F dX3_puts_4 rfl ?_ ?_
  · refine xr_aload_n 0 (r := (some a0)) F dX3_puts_8 rfl ?_
    refine xr_gR (r := (some a0)) (ref := "ReserveLedgerModel") F dX3_puts_9 (C := RX3) (T := TX3) (N := 25) rfl (by decide) (Or.inl q3401) (Or.inl rfl) (fun v9 => ?_)
    refine xr_aload_n 0 (r := (some a0)) F dX3_puts_12 rfl ?_
    refine xr_gI (r := (some a0)) (ref := "ReserveLedgerModel") F dX3_puts_13 (C := RX3) (T := TX3) (N := 25) rfl (by decide) (Or.inl q3414) (Or.inl rfl) (fun v13 => ?_)
    refine xr_dup2_11 F dX3_puts_16 rfl (xrf_cat _) ?_
    refine xr_iald (r := v9) F dX3_puts_17 (fun v17 => ?_)
    refine xr_iconst (1 : Int32) F dX3_puts_18 rfl ?_
    refine xr_iadd F dX3_puts_19 ?_
    refine xr_iast (r := v9) F dX3_puts_20 ?_
    refine xr_aload_n 0 (r := (some a0)) F dX3_puts_21 rfl ?_
    refine xr_gR (r := (some a0)) (ref := "ReserveLedgerModel") F dX3_puts_22 (C := RX3) (T := TX3) (N := 25) rfl (by decide) (Or.inl q3401) (Or.inl rfl) (fun v22 => ?_)
    refine xr_aload_n 0 (r := (some a0)) F dX3_puts_25 rfl ?_
    refine xr_gI (r := (some a0)) (ref := "ReserveLedgerModel") F dX3_puts_26 (C := RX3) (T := TX3) (N := 25) rfl (by decide) (Or.inl q3414) (Or.inl rfl) (fun v26 => ?_)
    refine xr_aload_n 0 (r := (some a0)) F dX3_puts_29 rfl ?_
    refine xr_gR (r := (some a0)) (ref := "ReserveLedgerModel") F dX3_puts_30 (C := RX3) (T := TX3) (N := 25) rfl (by decide) (Or.inl q3401) (Or.inl rfl) (fun v30 => ?_)
    refine xr_aload_n 0 (r := (some a0)) F dX3_puts_33 rfl ?_
    refine xr_gI (r := (some a0)) (ref := "ReserveLedgerModel") F dX3_puts_34 (C := RX3) (T := TX3) (N := 25) rfl (by decide) (Or.inl q3414) (Or.inl rfl) (fun v34 => ?_)
    refine xr_iald (r := v30) F dX3_puts_37 (fun v37 => ?_)
    refine xr_iadd F dX3_puts_38 ?_
    refine xr_iload_n 1 F dX3_puts_39 rfl ?_
    refine xr_iast (r := v22) F dX3_puts_40 ?_
    exact xr_vret F dX3_puts_41
  · exact xr_vret F dX3_puts_7
theorem fX3_opensBracket_p33_ok {x : xC} (F : xF x RX3 cX3_opensBracket none) (hnL : xnL x = 1) (hRm : ∃ dc ds, x.2.2.2.1 = { frames := 3, cells := dc, slots := ds, locals := 54 }) (hno : ∀ pc, xNo x pc) (hmn : xmn x = "opensBracket" ∧ xmy x yX3_opensBracket) (l0 : Nat) (s0 : Int32) (s1 : Nat) : xI x xeV 33 [(0, va_rf (some l0))] [.int s0, va_rf (some s1)] (fX3_opensBracket_p33 l0 s0 s1) := by
  unfold fX3_opensBracket_p33
  refine xr_iconst (4 : Int32) F dX3_opensBracket_33 rfl ?_
  refine xr_VV (y := yX3_must) (As := [.int s0, .int (4 : Int32)]) (r := (some s1)) F (hno _) dX3_opensBracket_34 (fun z => fX3_must_m (xFG F) z s0 (4 : Int32)) (Or.inl rfl) (ci := 39) (C := RX3) (T := TX3) rfl q3541 q3538 q3540 qs61 (xroom hRm (Nat.le_of_ble_eq_true rfl) (Nat.le_of_ble_eq_true rfl)) ⟨by decide, by decide⟩ n_X3_must rfl (xcat (Nat.le_of_ble_eq_true rfl)) (fun _ => ?_)
  refine xr_aload_n 0 (r := (some l0)) F dX3_opensBracket_37 rfl ?_
  refine xr_dup F dX3_opensBracket_38 (xrf_cat _) ?_
  refine xr_gI (r := (some l0)) (ref := "ReserveLedgerModel") F dX3_opensBracket_39 (C := RX3) (T := TX3) (N := 25) rfl (by decide) (Or.inl q3415) (Or.inl rfl) (fun v39 => ?_)
  refine xr_iconst (1 : Int32) F dX3_opensBracket_42 rfl ?_
  refine xr_iadd F dX3_opensBracket_43 ?_
  refine xr_put (r := (some l0)) (ref := "ReserveLedgerModel") F dX3_opensBracket_44 xk_39 (by decide) (Or.inl q3415) (Or.inl rfl) (Or.inl rfl) ⟨rfl, rfl⟩ ?_
  refine xr_aload_n 0 (r := (some l0)) F dX3_opensBracket_47 rfl ?_
  refine xr_VI (y := yX3_hasFailed) (As := []) (r := (some l0)) F (hno _) dX3_opensBracket_48 (fun z => fX3_hasFailed_m (xFG F) z) (Or.inl rfl) (ci := 39) (C := RX3) (T := TX3) rfl q3514 q3511 q3513 qs55 (xroom hRm (Nat.le_of_ble_eq_true rfl) (Nat.le_of_ble_eq_true rfl)) ⟨by decide, by decide⟩ n_X3_hasFailed rfl (xcat (Nat.le_of_ble_eq_true rfl)) (fun v48 => ?_)
  refine xr_if_ne 64 F dX3_opensBracket_51 rfl ?_ ?_
  · refine xr_aload_n 0 (r := (some l0)) F dX3_opensBracket_54 rfl ?_
    refine xr_dup F dX3_opensBracket_55 (xrf_cat _) ?_
    refine xr_gI (r := (some l0)) (ref := "ReserveLedgerModel") F dX3_opensBracket_56 (C := RX3) (T := TX3) (N := 25) rfl (by decide) (Or.inl q3407) (Or.inl rfl) (fun v56 => ?_)
    refine xr_iconst (1 : Int32) F dX3_opensBracket_59 rfl ?_
    refine xr_iadd F dX3_opensBracket_60 ?_
    refine xr_put (r := (some l0)) (ref := "ReserveLedgerModel") F dX3_opensBracket_61 xk_39 (by decide) (Or.inl q3407) (Or.inl rfl) (Or.inl rfl) ⟨rfl, rfl⟩ ?_
    exact xr_vret F dX3_opensBracket_64
  · exact xr_vret F dX3_opensBracket_64
theorem fX3_opensBracket_m {l : Launch} {D : xD} {s0 : State} {b0 : Nat} {Γ : Nat → Option Nat} (G : xG l D s0 b0 Γ) (a0 : Nat) : xMeth l D s0 Γ yX3_opensBracket (Cond.code yX3_opensBracket cX3_opensBracket 1 none) (3) (54) [.ref a0] xeV (fX3_opensBracket a0) := by
  refine xMeth.of (lv0 := [(0, va_rf (some a0))]) G (by decide +kernel) (Or.inl rfl) (Nat.le_of_ble_eq_true rfl) rfl (fun x F hnL hRm hmn ht e1 e2 e3 e4 => ?_)
  have hno : ∀ pc, xNo x pc := fun pc z hz => by rw [ht.1 rfl] at hz; cases hz
  unfold fX3_opensBracket
  refine xr_aload_n 0 (r := (some a0)) F dX3_opensBracket_0 rfl ?_
  refine xr_VV (y := yX3_blanks) (As := []) (r := (some a0)) F (hno _) dX3_opensBracket_1 (fun z => fX3_blanks_m (xFG F) z) (Or.inl rfl) (ci := 39) (C := RX3) (T := TX3) rfl q3510 q3507 q3509 qs54 (xroom hRm (Nat.le_of_ble_eq_true rfl) (Nat.le_of_ble_eq_true rfl)) ⟨by decide, by decide⟩ n_X3_blanks rfl (xcat (Nat.le_of_ble_eq_true rfl)) (fun _ => ?_)
  refine xr_aload_n 0 (r := (some a0)) F dX3_opensBracket_4 rfl ?_
  refine xr_aload_n 0 (r := (some a0)) F dX3_opensBracket_5 rfl ?_
  refine xr_bipush (40 : Int32) F dX3_opensBracket_6 rfl ?_
  refine xr_bipush (40 : Int32) F dX3_opensBracket_8 rfl ?_
  refine xr_VI (y := yX3_isAt) (As := [.int (40 : Int32), .int (40 : Int32)]) (r := (some a0)) F (hno _) dX3_opensBracket_10 (fun z => fX3_isAt_m (xFG F) z (40 : Int32) (40 : Int32)) (Or.inl rfl) (ci := 39) (C := RX3) (T := TX3) rfl q3518 q3515 q3517 qs56 (xroom hRm (Nat.le_of_ble_eq_true rfl) (Nat.le_of_ble_eq_true rfl)) ⟨by decide, by decide⟩ n_X3_isAt rfl (xcat (Nat.le_of_ble_eq_true rfl)) (fun v10 => ?_)
  refine xr_iconst (1 : Int32) F dX3_opensBracket_13 rfl ?_
  refine xr_VV (y := yX3_must) (As := [.int v10, .int (1 : Int32)]) (r := (some a0)) F (hno _) dX3_opensBracket_14 (fun z => fX3_must_m (xFG F) z v10 (1 : Int32)) (Or.inl rfl) (ci := 39) (C := RX3) (T := TX3) rfl q3541 q3538 q3540 qs61 (xroom hRm (Nat.le_of_ble_eq_true rfl) (Nat.le_of_ble_eq_true rfl)) ⟨by decide, by decide⟩ n_X3_must rfl (xcat (Nat.le_of_ble_eq_true rfl)) (fun _ => ?_)
  refine xr_aload_n 0 (r := (some a0)) F dX3_opensBracket_17 rfl ?_
  refine xr_aload_n 0 (r := (some a0)) F dX3_opensBracket_18 rfl ?_
  refine xr_gI (r := (some a0)) (ref := "ReserveLedgerModel") F dX3_opensBracket_19 (C := RX3) (T := TX3) (N := 25) rfl (by decide) (Or.inl q3415) (Or.inl rfl) (fun v19 => ?_)
  refine xr_iconst (1 : Int32) F dX3_opensBracket_22 rfl ?_
  refine xr_iadd F dX3_opensBracket_23 ?_
  refine xr_iconst (5 : Int32) F dX3_opensBracket_24 rfl ?_
  refine xr_icmp_ge 32 F dX3_opensBracket_25 rfl ?_ ?_
  · refine xr_iconst (0 : Int32) F dX3_opensBracket_32 rfl ?_
    exact xI.sub [0] rfl (fX3_opensBracket_p33_ok F hnL hRm hno hmn a0 (0 : Int32) a0)
  · refine xr_iconst (1 : Int32) F dX3_opensBracket_28 rfl ?_
    refine xr_goto 33 F dX3_opensBracket_29 rfl ?_
    exact xI.sub [0] rfl (fX3_opensBracket_p33_ok F hnL hRm hno hmn a0 (1 : Int32) a0)
theorem fX3_closesBracket_m {l : Launch} {D : xD} {s0 : State} {b0 : Nat} {Γ : Nat → Option Nat} (G : xG l D s0 b0 Γ) (a0 : Nat) : xMeth l D s0 Γ yX3_closesBracket (Cond.code yX3_closesBracket cX3_closesBracket 1 none) (5) (98) [.ref a0] xeV (fX3_closesBracket a0) := by
  refine xMeth.of (lv0 := [(0, va_rf (some a0))]) G (by decide +kernel) (Or.inl rfl) (Nat.le_of_ble_eq_true rfl) rfl (fun x F hnL hRm hmn ht e1 e2 e3 e4 => ?_)
  have hno : ∀ pc, xNo x pc := fun pc z hz => by rw [ht.1 rfl] at hz; cases hz
  unfold fX3_closesBracket
  refine xr_aload_n 0 (r := (some a0)) F dX3_closesBracket_0 rfl ?_
  refine xr_bipush (41 : Int32) F dX3_closesBracket_1 rfl ?_
  refine xr_VV (y := yX3_needs) (As := [.int (41 : Int32)]) (r := (some a0)) F (hno _) dX3_closesBracket_3 (fun z => fX3_needs_m (xFG F) z (41 : Int32)) (Or.inl rfl) (ci := 39) (C := RX3) (T := TX3) rfl q3617 q3614 q3616 qs76 (xroom hRm (Nat.le_of_ble_eq_true rfl) (Nat.le_of_ble_eq_true rfl)) ⟨by decide, by decide⟩ n_X3_needs rfl (xcat (Nat.le_of_ble_eq_true rfl)) (fun _ => ?_)
  refine xr_aload_n 0 (r := (some a0)) F dX3_closesBracket_6 rfl ?_
  refine xr_dup F dX3_closesBracket_7 (xrf_cat _) ?_
  refine xr_gI (r := (some a0)) (ref := "ReserveLedgerModel") F dX3_closesBracket_8 (C := RX3) (T := TX3) (N := 25) rfl (by decide) (Or.inl q3415) (Or.inl rfl) (fun v8 => ?_)
  refine xr_iconst (1 : Int32) F dX3_closesBracket_11 rfl ?_
  refine xr_isub F dX3_closesBracket_12 ?_
  refine xr_put (r := (some a0)) (ref := "ReserveLedgerModel") F dX3_closesBracket_13 xk_39 (by decide) (Or.inl q3415) (Or.inl rfl) (Or.inl rfl) ⟨rfl, rfl⟩ ?_
  exact xr_vret F dX3_closesBracket_16
theorem fX3_readPair_m {l : Launch} {D : xD} {s0 : State} {b0 : Nat} {Γ : Nat → Option Nat} (G : xG l D s0 b0 Γ) {S : Nat → xM (Unit)} {frS loS : Nat} (hS : ∀ (b0_ : Nat), xMeth l D s0 Γ yX3_readSum (Cond.code yX3_readSum cX3_readSum 3 none) frS loS [.ref b0_] xeV (S b0_)) (a0 : Nat) (p0 : Int32) : xMeth l D s0 Γ yX3_readPair (Cond.code yX3_readPair cX3_readPair 2 none) (frS + 6) (loS + 118) [.ref a0, .int p0] xeV (fX3_readPair S a0 p0) := by
  refine xMeth.of (lv0 := [(0, va_rf (some a0)), (1, .int p0)]) G (by decide +kernel) (Or.inl rfl) (Nat.le_of_ble_eq_true rfl) rfl (fun x F hnL hRm hmn ht e1 e2 e3 e4 => ?_)
  have hno : ∀ pc, xNo x pc := fun pc z hz => by rw [ht.1 rfl] at hz; cases hz
  have hS : ∀ (b0_ : Nat), xMx x yX3_readSum (Cond.code yX3_readSum cX3_readSum 3 none) frS loS [.ref b0_] xeV (S b0_) := by
    intro b0_
    unfold xMx
    rw [e1, e2, e3, e4]
    exact hS b0_
  unfold fX3_readPair
  refine xr_aload_n 0 (r := (some a0)) F dX3_readPair_0 rfl ?_
  refine xr_VV (y := yX3_opensBracket) (As := []) (r := (some a0)) F (hno _) dX3_readPair_1 (fun z => fX3_opensBracket_m (xFG F) z) (Or.inl rfl) (ci := 39) (C := RX3) (T := TX3) rfl q3609 q3606 q3608 qs74 (xroom hRm (by omega) (by omega)) ⟨by decide, by decide⟩ n_X3_opensBracket rfl (xcat (Nat.le_of_ble_eq_true rfl)) (fun _ => ?_)
  refine xr_aload_n 0 (r := (some a0)) F dX3_readPair_4 rfl ?_
  refine xr_VI (y := yX3_hasFailed) (As := []) (r := (some a0)) F (hno _) dX3_readPair_5 (fun z => fX3_hasFailed_m (xFG F) z) (Or.inl rfl) (ci := 39) (C := RX3) (T := TX3) rfl q3514 q3511 q3513 qs55 (xroom hRm (by omega) (by omega)) ⟨by decide, by decide⟩ n_X3_hasFailed rfl (xcat (Nat.le_of_ble_eq_true rfl)) (fun v5 => ?_)
  refine xr_if_eq 12 F dX3_readPair_8 rfl ?_ ?_
  · refine xr_aload_n 0 (r := (some a0)) F dX3_readPair_12 rfl ?_
    refine xr_VV (y := yX3_readSum) (As := []) (r := (some a0)) F (hno _) dX3_readPair_13 (fun z => hS z) (Or.inl rfl) (ci := 39) (C := RX3) (T := TX3) rfl q3592 q3589 q3591 qs70 (xroom hRm (by omega) (by omega)) ⟨by decide, by decide⟩ n_X3_readSum rfl (xcat (Nat.le_of_ble_eq_true rfl)) (fun _ => ?_)
    refine xr_aload_n 0 (r := (some a0)) F dX3_readPair_16 rfl ?_
    refine xr_bipush (44 : Int32) F dX3_readPair_17 rfl ?_
    refine xr_VV (y := yX3_needs) (As := [.int (44 : Int32)]) (r := (some a0)) F (hno _) dX3_readPair_19 (fun z => fX3_needs_m (xFG F) z (44 : Int32)) (Or.inl rfl) (ci := 39) (C := RX3) (T := TX3) rfl q3617 q3614 q3616 qs76 (xroom hRm (by omega) (by omega)) ⟨by decide, by decide⟩ n_X3_needs rfl (xcat (Nat.le_of_ble_eq_true rfl)) (fun _ => ?_)
    refine xr_aload_n 0 (r := (some a0)) F dX3_readPair_22 rfl ?_
    refine xr_VI (y := yX3_hasFailed) (As := []) (r := (some a0)) F (hno _) dX3_readPair_23 (fun z => fX3_hasFailed_m (xFG F) z) (Or.inl rfl) (ci := 39) (C := RX3) (T := TX3) rfl q3514 q3511 q3513 qs55 (xroom hRm (by omega) (by omega)) ⟨by decide, by decide⟩ n_X3_hasFailed rfl (xcat (Nat.le_of_ble_eq_true rfl)) (fun v23 => ?_)
    refine xr_if_eq 30 F dX3_readPair_26 rfl ?_ ?_
    · refine xr_aload_n 0 (r := (some a0)) F dX3_readPair_30 rfl ?_
      refine xr_VV (y := yX3_readSum) (As := []) (r := (some a0)) F (hno _) dX3_readPair_31 (fun z => hS z) (Or.inl rfl) (ci := 39) (C := RX3) (T := TX3) rfl q3592 q3589 q3591 qs70 (xroom hRm (by omega) (by omega)) ⟨by decide, by decide⟩ n_X3_readSum rfl (xcat (Nat.le_of_ble_eq_true rfl)) (fun _ => ?_)
      refine xr_aload_n 0 (r := (some a0)) F dX3_readPair_34 rfl ?_
      refine xr_VV (y := yX3_closesBracket) (As := []) (r := (some a0)) F (hno _) dX3_readPair_35 (fun z => fX3_closesBracket_m (xFG F) z) (Or.inl rfl) (ci := 39) (C := RX3) (T := TX3) rfl q3613 q3610 q3612 qs75 (xroom hRm (by omega) (by omega)) ⟨by decide, by decide⟩ n_X3_closesBracket rfl (xcat (Nat.le_of_ble_eq_true rfl)) (fun _ => ?_)
      refine xr_aload_n 0 (r := (some a0)) F dX3_readPair_38 rfl ?_
      refine xr_iload_n 1 F dX3_readPair_39 rfl ?_
      refine xr_VV (y := yX3_puts) (As := [.int p0]) (r := (some a0)) F (hno _) dX3_readPair_40 (fun z => fX3_puts_m (xFG F) z p0) (Or.inl rfl) (ci := 39) (C := RX3) (T := TX3) rfl q3605 q3602 q3604 qs73 (xroom hRm (by omega) (by omega)) ⟨by decide, by decide⟩ n_X3_puts rfl (xcat (Nat.le_of_ble_eq_true rfl)) (fun _ => ?_)
      exact xr_vret F dX3_readPair_43
    · exact xr_vret F dX3_readPair_29
  · exact xr_vret F dX3_readPair_11
theorem fX3_in_m {l : Launch} {D : xD} {s0 : State} {b0 : Nat} {Γ : Nat → Option Nat} (G : xG l D s0 b0 Γ) (p0 : Int64) (p1 : Int64) (p2 : Int64) : xMeth l D s0 Γ yX3_in (Cond.code yX3_in cX3_in 6 (some .boolean)) (1) (12) [.long p0, .long p1, .long p2] xeI (fX3_in p0 p1 p2) := by
  refine xMeth.of (lv0 := [(0, .long p0), (2, .long p1), (4, .long p2)]) G (by decide +kernel) (Or.inl rfl) (Nat.le_of_ble_eq_true rfl) rfl (fun x F hnL hRm hmn ht e1 e2 e3 e4 => ?_)
  have hno : ∀ pc, xNo x pc := fun pc z hz => by rw [ht.1 rfl] at hz; cases hz
  unfold fX3_in
  refine xr_lload_n 0 F dX3_in_0 rfl ?_
  refine xr_lload_n 1 F dX3_in_1 rfl ?_
  refine xr_lcmp F dX3_in_2 ?_
  refine xr_if_lt 17 F dX3_in_3 rfl ?_ ?_
  · refine xr_iconst (0 : Int32) F dX3_in_17 rfl ?_
    exact xr_zret F dX3_in_18 rfl
  · refine xr_lload_n 0 F dX3_in_6 rfl ?_
    refine xr_lload 2 F dX3_in_7 rfl ?_
    refine xr_lcmp F dX3_in_9 ?_
    refine xr_if_gt 17 F dX3_in_10 rfl ?_ ?_
    · refine xr_iconst (0 : Int32) F dX3_in_17 rfl ?_
      exact xr_zret F dX3_in_18 rfl
    · refine xr_iconst (1 : Int32) F dX3_in_13 rfl ?_
      refine xr_goto 18 F dX3_in_14 rfl ?_
      exact xr_zret F dX3_in_18 rfl
theorem fX3_number_p71_ok {x : xC} (F : xF x RX3 cX3_number (some .int)) (hnL : xnL x = 4) (hRm : ∃ dc ds, x.2.2.2.1 = { frames := 3, cells := dc, slots := ds, locals := 54 }) (hno : ∀ pc, xNo x pc) (hmn : xmn x = "number" ∧ xmy x yX3_number) {k28 : Nat → Int32 → Int32 → Int32 → xM (Int32)} (hk28 : ∀ (l0 : Nat) (l1 : Int32) (l2 : Int32) (l3 : Int32), xI x xeI 28 [(0, va_rf (some l0)), (1, .int l1), (2, .int l2), (3, .int l3)] [] (k28 l0 l1 l2 l3)) (l0 : Nat) (l1 : Int32) (l2 : Int32) (l3 : Int32) : xI x xeI 71 [(0, va_rf (some l0)), (1, .int l1), (2, .int l2), (3, .int l3)] [] (fX3_number_p71 k28 l0 l1 l2 l3) := by
  unfold fX3_number_p71
  refine xr_aload_n 0 (r := (some l0)) F dX3_number_71 rfl ?_
  refine xr_dup F dX3_number_72 (xrf_cat _) ?_
  refine xr_gI (r := (some l0)) (ref := "ReserveLedgerModel") F dX3_number_73 (C := RX3) (T := TX3) (N := 25) rfl (by decide) (Or.inl q3407) (Or.inl rfl) (fun v73 => ?_)
  refine xr_iconst (1 : Int32) F dX3_number_76 rfl ?_
  refine xr_iadd F dX3_number_77 ?_
  refine xr_put (r := (some l0)) (ref := "ReserveLedgerModel") F dX3_number_78 xk_39 (by decide) (Or.inl q3407) (Or.inl rfl) (Or.inl rfl) ⟨rfl, rfl⟩ ?_
  refine xr_goto 28 F dX3_number_81 rfl ?_
  exact xI.sub [0, 1, 2, 3] rfl (hk28 l0 l1 l2 l3)
theorem fX3_number_p116_ok {x : xC} (F : xF x RX3 cX3_number (some .int)) (hnL : xnL x = 4) (hRm : ∃ dc ds, x.2.2.2.1 = { frames := 3, cells := dc, slots := ds, locals := 54 }) (hno : ∀ pc, xNo x pc) (hmn : xmn x = "number" ∧ xmy x yX3_number) (l0 : Nat) (l1 : Int32) (l3 : Int32) (s0 : Int32) (s1 : Nat) : xI x xeI 116 [(0, va_rf (some l0)), (1, .int l1), (3, .int l3)] [.int s0, va_rf (some s1)] (fX3_number_p116 l0 l1 l3 s0 s1) := by
  unfold fX3_number_p116
  refine xr_iconst (2 : Int32) F dX3_number_116 rfl ?_
  refine xr_VV (y := yX3_must) (As := [.int s0, .int (2 : Int32)]) (r := (some s1)) F (hno _) dX3_number_117 (fun z => fX3_must_m (xFG F) z s0 (2 : Int32)) (Or.inl rfl) (ci := 39) (C := RX3) (T := TX3) rfl q3541 q3538 q3540 qs61 (xroom hRm (Nat.le_of_ble_eq_true rfl) (Nat.le_of_ble_eq_true rfl)) ⟨by decide, by decide⟩ n_X3_must rfl (xcat (Nat.le_of_ble_eq_true rfl)) (fun _ => ?_)
  refine xr_aload_n 0 (r := (some l0)) F dX3_number_120 rfl ?_
  refine xr_VI (y := yX3_hasFailed) (As := []) (r := (some l0)) F (hno _) dX3_number_121 (fun z => fX3_hasFailed_m (xFG F) z) (Or.inl rfl) (ci := 39) (C := RX3) (T := TX3) rfl q3514 q3511 q3513 qs55 (xroom hRm (Nat.le_of_ble_eq_true rfl) (Nat.le_of_ble_eq_true rfl)) ⟨by decide, by decide⟩ n_X3_hasFailed rfl (xcat (Nat.le_of_ble_eq_true rfl)) (fun v121 => ?_)
  refine xr_if_eq 131 F dX3_number_124 rfl ?_ ?_
  · refine xr_iload_n 2 F dX3_number_131 rfl ?_
    exact xr_iret F dX3_number_132
  · refine xr_iload_n 1 F dX3_number_127 rfl ?_
    refine xr_goto 132 F dX3_number_128 rfl ?_
    exact xr_iret F dX3_number_132
theorem fX3_number_p115_ok {x : xC} (F : xF x RX3 cX3_number (some .int)) (hnL : xnL x = 4) (hRm : ∃ dc ds, x.2.2.2.1 = { frames := 3, cells := dc, slots := ds, locals := 54 }) (hno : ∀ pc, xNo x pc) (hmn : xmn x = "number" ∧ xmy x yX3_number) (l0 : Nat) (l1 : Int32) (l3 : Int32) (s0 : Nat) : xI x xeI 115 [(0, va_rf (some l0)), (1, .int l1), (3, .int l3)] [va_rf (some s0)] (fX3_number_p115 l0 l1 l3 s0) := by
  unfold fX3_number_p115
  refine xr_iconst (0 : Int32) F dX3_number_115 rfl ?_
  exact xI.sub [0, 1, 2] rfl (fX3_number_p116_ok F hnL hRm hno hmn l0 l1 l3 (0 : Int32) s0)
theorem fX3_number_p28_ok {x : xC} (F : xF x RX3 cX3_number (some .int)) (hnL : xnL x = 4) (hRm : ∃ dc ds, x.2.2.2.1 = { frames := 3, cells := dc, slots := ds, locals := 54 }) (hno : ∀ pc, xNo x pc) (hmn : xmn x = "number" ∧ xmy x yX3_number) : ∀ (n : Nat) (l0 : Nat) (l1 : Int32) (l2 : Int32) (l3 : Int32), xI x xeI 28 [(0, va_rf (some l0)), (1, .int l1), (2, .int l2), (3, .int l3)] [] (fX3_number_p28 n l0 l1 l2 l3) := by
  intro n
  induction n with
  | zero => intro l0 l1 l2 l3; exact xI.stuck
  | succ n ih =>
    intro l0 l1 l2 l3
    unfold fX3_number_p28
    refine xr_aload_n 0 (r := (some l0)) F dX3_number_28 rfl ?_
    refine xr_bipush (48 : Int32) F dX3_number_29 rfl ?_
    refine xr_bipush (57 : Int32) F dX3_number_31 rfl ?_
    refine xr_VI (y := yX3_isAt) (As := [.int (48 : Int32), .int (57 : Int32)]) (r := (some l0)) F (hno _) dX3_number_33 (fun z => fX3_isAt_m (xFG F) z (48 : Int32) (57 : Int32)) (Or.inl rfl) (ci := 39) (C := RX3) (T := TX3) rfl q3518 q3515 q3517 qs56 (xroom hRm (Nat.le_of_ble_eq_true rfl) (Nat.le_of_ble_eq_true rfl)) ⟨by decide, by decide⟩ n_X3_isAt rfl (xcat (Nat.le_of_ble_eq_true rfl)) (fun v33 => ?_)
    refine xr_if_eq 84 F dX3_number_36 rfl ?_ ?_
    · refine xr_aload_n 0 (r := (some l0)) F dX3_number_84 rfl ?_
      refine xr_aload_n 0 (r := (some l0)) F dX3_number_85 rfl ?_
      refine xr_gI (r := (some l0)) (ref := "ReserveLedgerModel") F dX3_number_86 (C := RX3) (T := TX3) (N := 25) rfl (by decide) (Or.inl q3407) (Or.inl rfl) (fun v86 => ?_)
      refine xr_aload_n 0 (r := (some l0)) F dX3_number_89 rfl ?_
      refine xr_gI (r := (some l0)) (ref := "ReserveLedgerModel") F dX3_number_90 (C := RX3) (T := TX3) (N := 25) rfl (by decide) (Or.inl q3408) (Or.inl rfl) (fun v90 => ?_)
      refine xr_isub F dX3_number_93 ?_
      refine xr_bipush (6 : Int32) F dX3_number_94 rfl ?_
      refine xr_icmp_gt 115 F dX3_number_96 rfl ?_ ?_
      · exact xI.sub [0, 1, 3] rfl (fX3_number_p115_ok F hnL hRm hno hmn l0 l1 l3 l0)
      · refine xr_iload_n 3 F dX3_number_99 rfl ?_
        refine xr_i2l F dX3_number_100 ?_
        refine xr_iload_n 1 F dX3_number_101 rfl ?_
        refine xr_i2l F dX3_number_102 ?_
        refine xr_iload_n 2 F dX3_number_103 rfl ?_
        refine xr_i2l F dX3_number_104 ?_
        refine xr_SI (y := yX3_in) (As := [.long l3.toInt64, .long l1.toInt64, .long l2.toInt64]) F (hno _) dX3_number_105 (fX3_in_m (xFG F) l3.toInt64 l1.toInt64 l2.toInt64) (Or.inl rfl) q3544 q144 (Or.inl q3542) q3543 (xroom hRm (Nat.le_of_ble_eq_true rfl) (Nat.le_of_ble_eq_true rfl)) ⟨by decide, by decide⟩ n_X3_in rfl (xcat (Nat.le_of_ble_eq_true rfl)) (fun v105 => ?_)
        refine xr_if_eq 115 F dX3_number_108 rfl ?_ ?_
        · exact xI.sub [0, 1, 3] rfl (fX3_number_p115_ok F hnL hRm hno hmn l0 l1 l3 l0)
        · refine xr_iconst (1 : Int32) F dX3_number_111 rfl ?_
          refine xr_goto 116 F dX3_number_112 rfl ?_
          exact xI.sub [0, 1, 3] rfl (fX3_number_p116_ok F hnL hRm hno hmn l0 l1 l3 (1 : Int32) l0)
    · refine xr_aload_n 0 (r := (some l0)) F dX3_number_39 rfl ?_
      refine xr_gI (r := (some l0)) (ref := "ReserveLedgerModel") F dX3_number_40 (C := RX3) (T := TX3) (N := 25) rfl (by decide) (Or.inl q3407) (Or.inl rfl) (fun v40 => ?_)
      refine xr_aload_n 0 (r := (some l0)) F dX3_number_43 rfl ?_
      refine xr_gI (r := (some l0)) (ref := "ReserveLedgerModel") F dX3_number_44 (C := RX3) (T := TX3) (N := 25) rfl (by decide) (Or.inl q3408) (Or.inl rfl) (fun v44 => ?_)
      refine xr_isub F dX3_number_47 ?_
      refine xr_bipush (6 : Int32) F dX3_number_48 rfl ?_
      refine xr_icmp_ge 71 F dX3_number_50 rfl ?_ ?_
      · exact xI.sub [0, 1, 2, 3] rfl (fX3_number_p71_ok F hnL hRm hno hmn ih l0 l1 l2 l3)
      · refine xr_bipush (10 : Int32) F dX3_number_53 rfl ?_
        refine xr_iload_n 3 F dX3_number_55 rfl ?_
        refine xr_imul F dX3_number_56 ?_
        refine xr_aload_n 0 (r := (some l0)) F dX3_number_57 rfl ?_
        refine xr_gR (r := (some l0)) (ref := "ReserveLedgerModel") F dX3_number_58 (C := RX3) (T := TX3) (N := 25) rfl (by decide) (Or.inl q3404) (Or.inl rfl) (fun v58 => ?_)
        refine xr_aload_n 0 (r := (some l0)) F dX3_number_61 rfl ?_
        refine xr_gI (r := (some l0)) (ref := "ReserveLedgerModel") F dX3_number_62 (C := RX3) (T := TX3) (N := 25) rfl (by decide) (Or.inl q3407) (Or.inl rfl) (fun v62 => ?_)
        refine xr_bald (r := v58) F dX3_number_65 (fun v65 => ?_)
        refine xr_iadd F dX3_number_66 ?_
        refine xr_bipush (48 : Int32) F dX3_number_67 rfl ?_
        refine xr_isub F dX3_number_69 ?_
        refine xr_letI (fun x3_70 => ?_)
        refine xs_i_n [0, 1, 2] F dX3_number_70 hnL rfl rfl (xk1 rfl rfl (xk1 rfl rfl (xk2 rfl rfl xk0))) ?_
        exact xI.sub [1, 2, 3, 0] rfl (fX3_number_p71_ok F hnL hRm hno hmn ih l0 l1 l2 x3_70)
theorem fX3_number_m {l : Launch} {D : xD} {s0 : State} {b0 : Nat} {Γ : Nat → Option Nat} (G : xG l D s0 b0 Γ) (a0 : Nat) (p0 : Int32) (p1 : Int32) : xMeth l D s0 Γ yX3_number (Cond.code yX3_number cX3_number 4 (some .int)) (3) (54) [.ref a0, .int p0, .int p1] xeI (fX3_number a0 p0 p1) := by
  refine xMeth.of (lv0 := [(0, va_rf (some a0)), (1, .int p0), (2, .int p1)]) G (by decide +kernel) (Or.inl rfl) (Nat.le_of_ble_eq_true rfl) rfl (fun x F hnL hRm hmn ht e1 e2 e3 e4 => ?_)
  have hno : ∀ pc, xNo x pc := fun pc z hz => by rw [ht.1 rfl] at hz; cases hz
  unfold fX3_number
  refine xr_aload_n 0 (r := (some a0)) F dX3_number_0 rfl ?_
  refine xr_VV (y := yX3_blanks) (As := []) (r := (some a0)) F (hno _) dX3_number_1 (fun z => fX3_blanks_m (xFG F) z) (Or.inl rfl) (ci := 39) (C := RX3) (T := TX3) rfl q3510 q3507 q3509 qs54 (xroom hRm (Nat.le_of_ble_eq_true rfl) (Nat.le_of_ble_eq_true rfl)) ⟨by decide, by decide⟩ n_X3_blanks rfl (xcat (Nat.le_of_ble_eq_true rfl)) (fun _ => ?_)
  refine xr_aload_n 0 (r := (some a0)) F dX3_number_4 rfl ?_
  refine xr_aload_n 0 (r := (some a0)) F dX3_number_5 rfl ?_
  refine xr_bipush (48 : Int32) F dX3_number_6 rfl ?_
  refine xr_bipush (57 : Int32) F dX3_number_8 rfl ?_
  refine xr_VI (y := yX3_isAt) (As := [.int (48 : Int32), .int (57 : Int32)]) (r := (some a0)) F (hno _) dX3_number_10 (fun z => fX3_isAt_m (xFG F) z (48 : Int32) (57 : Int32)) (Or.inl rfl) (ci := 39) (C := RX3) (T := TX3) rfl q3518 q3515 q3517 qs56 (xroom hRm (Nat.le_of_ble_eq_true rfl) (Nat.le_of_ble_eq_true rfl)) ⟨by decide, by decide⟩ n_X3_isAt rfl (xcat (Nat.le_of_ble_eq_true rfl)) (fun v10 => ?_)
  refine xr_iconst (1 : Int32) F dX3_number_13 rfl ?_
  refine xr_VV (y := yX3_must) (As := [.int v10, .int (1 : Int32)]) (r := (some a0)) F (hno _) dX3_number_14 (fun z => fX3_must_m (xFG F) z v10 (1 : Int32)) (Or.inl rfl) (ci := 39) (C := RX3) (T := TX3) rfl q3541 q3538 q3540 qs61 (xroom hRm (Nat.le_of_ble_eq_true rfl) (Nat.le_of_ble_eq_true rfl)) ⟨by decide, by decide⟩ n_X3_must rfl (xcat (Nat.le_of_ble_eq_true rfl)) (fun _ => ?_)
  refine xr_aload_n 0 (r := (some a0)) F dX3_number_17 rfl ?_
  refine xr_VI (y := yX3_hasFailed) (As := []) (r := (some a0)) F (hno _) dX3_number_18 (fun z => fX3_hasFailed_m (xFG F) z) (Or.inl rfl) (ci := 39) (C := RX3) (T := TX3) rfl q3514 q3511 q3513 qs55 (xroom hRm (Nat.le_of_ble_eq_true rfl) (Nat.le_of_ble_eq_true rfl)) ⟨by decide, by decide⟩ n_X3_hasFailed rfl (xcat (Nat.le_of_ble_eq_true rfl)) (fun v18 => ?_)
  refine xr_if_eq 26 F dX3_number_21 rfl ?_ ?_
  · refine xr_iconst (0 : Int32) F dX3_number_26 rfl ?_
    refine xr_letI (fun x3_27 => ?_)
    refine xs_i_n [0, 1, 2] F dX3_number_27 hnL rfl rfl (xk1 rfl rfl (xk1 rfl rfl (xk2 rfl rfl xk0))) ?_
    exact xI.sub [1, 2, 3, 0] rfl (fX3_number_p28_ok F hnL hRm hno hmn xFU a0 p0 p1 x3_27)
  · refine xr_iload_n 1 F dX3_number_24 rfl ?_
    exact xr_iret F dX3_number_25
theorem fX3_readFactor_p179_ok {x : xC} {S : Nat → xM (Unit)} {frS loS : Nat} (hS : ∀ (b0_ : Nat), xMx x yX3_readSum (Cond.code yX3_readSum cX3_readSum 3 none) frS loS [.ref b0_] xeV (S b0_)) (F : xF x RX3 cX3_readFactor none) (hnL : xnL x = 2) (hRm : ∃ dc ds, x.2.2.2.1 = { frames := frS + 7, cells := dc, slots := ds, locals := loS + 139 }) (hno : ∀ pc, xNo x pc) (hmn : xmn x = "readFactor" ∧ xmy x yX3_readFactor) (l0 : Nat) (l1 : Int32) (s0 : Int32) (s1 : Nat) : xI x xeV 179 [(0, va_rf (some l0)), (1, .int l1)] [.int s0, va_rf (some s1)] (fX3_readFactor_p179 S l0 l1 s0 s1) := by
  unfold fX3_readFactor_p179
  refine xr_iconst (1 : Int32) F dX3_readFactor_179 rfl ?_
  refine xr_VV (y := yX3_must) (As := [.int s0, .int (1 : Int32)]) (r := (some s1)) F (hno _) dX3_readFactor_180 (fun z => fX3_must_m (xFG F) z s0 (1 : Int32)) (Or.inl rfl) (ci := 39) (C := RX3) (T := TX3) rfl q3541 q3538 q3540 qs61 (xroom hRm (by omega) (by omega)) ⟨by decide, by decide⟩ n_X3_must rfl (xcat (Nat.le_of_ble_eq_true rfl)) (fun _ => ?_)
  refine xr_aload_n 0 (r := (some l0)) F dX3_readFactor_183 rfl ?_
  refine xr_iload_n 1 F dX3_readFactor_184 rfl ?_
  refine xr_VV (y := yX3_puts) (As := [.int l1]) (r := (some l0)) F (hno _) dX3_readFactor_185 (fun z => fX3_puts_m (xFG F) z l1) (Or.inl rfl) (ci := 39) (C := RX3) (T := TX3) rfl q3605 q3602 q3604 qs73 (xroom hRm (by omega) (by omega)) ⟨by decide, by decide⟩ n_X3_puts rfl (xcat (Nat.le_of_ble_eq_true rfl)) (fun _ => ?_)
  exact xr_vret F dX3_readFactor_188
theorem fX3_readFactor_p167_ok {x : xC} {S : Nat → xM (Unit)} {frS loS : Nat} (hS : ∀ (b0_ : Nat), xMx x yX3_readSum (Cond.code yX3_readSum cX3_readSum 3 none) frS loS [.ref b0_] xeV (S b0_)) (F : xF x RX3 cX3_readFactor none) (hnL : xnL x = 2) (hRm : ∃ dc ds, x.2.2.2.1 = { frames := frS + 7, cells := dc, slots := ds, locals := loS + 139 }) (hno : ∀ pc, xNo x pc) (hmn : xmn x = "readFactor" ∧ xmy x yX3_readFactor) (l0 : Nat) (s0 : Int32) : xI x xeV 167 [(0, va_rf (some l0))] [.int s0] (fX3_readFactor_p167 S l0 s0) := by
  unfold fX3_readFactor_p167
  refine xs_i_n [0] F dX3_readFactor_167 hnL rfl rfl (xk2 rfl (xrf_cat _) xk0) ?_
  refine xr_aload_n 1 (r := (some l0)) F dX3_readFactor_168 rfl ?_
  refine xr_iload_n 0 F dX3_readFactor_169 rfl ?_
  refine xr_iconst (-1 : Int32) F dX3_readFactor_170 rfl ?_
  refine xr_icmp_eq 178 F dX3_readFactor_171 rfl ?_ ?_
  · refine xr_iconst (0 : Int32) F dX3_readFactor_178 rfl ?_
    exact xI.sub [1, 0] rfl (fX3_readFactor_p179_ok hS F hnL hRm hno hmn l0 s0 (0 : Int32) l0)
  · refine xr_iconst (1 : Int32) F dX3_readFactor_174 rfl ?_
    refine xr_goto 179 F dX3_readFactor_175 rfl ?_
    exact xI.sub [1, 0] rfl (fX3_readFactor_p179_ok hS F hnL hRm hno hmn l0 s0 (1 : Int32) l0)
theorem fX3_readFactor_m {l : Launch} {D : xD} {s0 : State} {b0 : Nat} {Γ : Nat → Option Nat} (G : xG l D s0 b0 Γ) {S : Nat → xM (Unit)} {frS loS : Nat} (hS : ∀ (b0_ : Nat), xMeth l D s0 Γ yX3_readSum (Cond.code yX3_readSum cX3_readSum 3 none) frS loS [.ref b0_] xeV (S b0_)) (a0 : Nat) : xMeth l D s0 Γ yX3_readFactor (Cond.code yX3_readFactor cX3_readFactor 2 none) (frS + 7) (loS + 139) [.ref a0] xeV (fX3_readFactor S a0) := by
  refine xMeth.of (lv0 := [(0, va_rf (some a0))]) G (by decide +kernel) (Or.inl rfl) (Nat.le_of_ble_eq_true rfl) rfl (fun x F hnL hRm hmn ht e1 e2 e3 e4 => ?_)
  have hno : ∀ pc, xNo x pc := fun pc z hz => by rw [ht.1 rfl] at hz; cases hz
  have hS : ∀ (b0_ : Nat), xMx x yX3_readSum (Cond.code yX3_readSum cX3_readSum 3 none) frS loS [.ref b0_] xeV (S b0_) := by
    intro b0_
    unfold xMx
    rw [e1, e2, e3, e4]
    exact hS b0_
  unfold fX3_readFactor
  refine xr_aload_n 0 (r := (some a0)) F dX3_readFactor_0 rfl ?_
  refine xr_VV (y := yX3_blanks) (As := []) (r := (some a0)) F (hno _) dX3_readFactor_1 (fun z => fX3_blanks_m (xFG F) z) (Or.inl rfl) (ci := 39) (C := RX3) (T := TX3) rfl q3510 q3507 q3509 qs54 (xroom hRm (by omega) (by omega)) ⟨by decide, by decide⟩ n_X3_blanks rfl (xcat (Nat.le_of_ble_eq_true rfl)) (fun _ => ?_)
  refine xr_aload_n 0 (r := (some a0)) F dX3_readFactor_4 rfl ?_
  refine xr_VI (y := yX3_hasFailed) (As := []) (r := (some a0)) F (hno _) dX3_readFactor_5 (fun z => fX3_hasFailed_m (xFG F) z) (Or.inl rfl) (ci := 39) (C := RX3) (T := TX3) rfl q3514 q3511 q3513 qs55 (xroom hRm (by omega) (by omega)) ⟨by decide, by decide⟩ n_X3_hasFailed rfl (xcat (Nat.le_of_ble_eq_true rfl)) (fun v5 => ?_)
  refine xr_if_eq 12 F dX3_readFactor_8 rfl ?_ ?_
  · refine xr_aload_n 0 (r := (some a0)) F dX3_readFactor_12 rfl ?_
    refine xr_bipush (48 : Int32) F dX3_readFactor_13 rfl ?_
    refine xr_bipush (57 : Int32) F dX3_readFactor_15 rfl ?_
    refine xr_VI (y := yX3_isAt) (As := [.int (48 : Int32), .int (57 : Int32)]) (r := (some a0)) F (hno _) dX3_readFactor_17 (fun z => fX3_isAt_m (xFG F) z (48 : Int32) (57 : Int32)) (Or.inl rfl) (ci := 39) (C := RX3) (T := TX3) rfl q3518 q3515 q3517 qs56 (xroom hRm (by omega) (by omega)) ⟨by decide, by decide⟩ n_X3_isAt rfl (xcat (Nat.le_of_ble_eq_true rfl)) (fun v17 => ?_)
    refine xr_if_eq 44 F dX3_readFactor_20 rfl ?_ ?_
    · refine xr_aload_n 0 (r := (some a0)) F dX3_readFactor_44 rfl ?_
      refine xr_bipush (40 : Int32) F dX3_readFactor_45 rfl ?_
      refine xr_bipush (40 : Int32) F dX3_readFactor_47 rfl ?_
      refine xr_VI (y := yX3_isAt) (As := [.int (40 : Int32), .int (40 : Int32)]) (r := (some a0)) F (hno _) dX3_readFactor_49 (fun z => fX3_isAt_m (xFG F) z (40 : Int32) (40 : Int32)) (Or.inl rfl) (ci := 39) (C := RX3) (T := TX3) rfl q3518 q3515 q3517 qs56 (xroom hRm (by omega) (by omega)) ⟨by decide, by decide⟩ n_X3_isAt rfl (xcat (Nat.le_of_ble_eq_true rfl)) (fun v49 => ?_)
      refine xr_if_eq 78 F dX3_readFactor_52 rfl ?_ ?_
      · refine xr_aload_n 0 (r := (some a0)) F dX3_readFactor_78 rfl ?_
        refine xr_str (k := 25) F dX3_readFactor_79 rfl (fun v79 => ?_)
        refine xr_VI (y := yX3_takes) (As := [va_rf v79]) (r := (some a0)) F (hno _) dX3_readFactor_81 (fun z => fX3_takes_m (xFG F) z v79) (Or.inl rfl) (ci := 39) (C := RX3) (T := TX3) rfl q3527 q3524 q3526 qs58 (xroom hRm (by omega) (by omega)) ⟨by decide, by decide⟩ n_X3_takes rfl (xcat (Nat.le_of_ble_eq_true rfl)) (fun v81 => ?_)
        refine xr_if_eq 96 F dX3_readFactor_84 rfl ?_ ?_
        · refine xr_aload_n 0 (r := (some a0)) F dX3_readFactor_96 rfl ?_
          refine xr_str (k := 26) F dX3_readFactor_97 rfl (fun v97 => ?_)
          refine xr_VI (y := yX3_takes) (As := [va_rf v97]) (r := (some a0)) F (hno _) dX3_readFactor_99 (fun z => fX3_takes_m (xFG F) z v97) (Or.inl rfl) (ci := 39) (C := RX3) (T := TX3) rfl q3527 q3524 q3526 qs58 (xroom hRm (by omega) (by omega)) ⟨by decide, by decide⟩ n_X3_takes rfl (xcat (Nat.le_of_ble_eq_true rfl)) (fun v99 => ?_)
          refine xr_if_eq 114 F dX3_readFactor_102 rfl ?_ ?_
          · refine xr_aload_n 0 (r := (some a0)) F dX3_readFactor_114 rfl ?_
            refine xr_str (k := 27) F dX3_readFactor_115 rfl (fun v115 => ?_)
            refine xr_VI (y := yX3_takes) (As := [va_rf v115]) (r := (some a0)) F (hno _) dX3_readFactor_117 (fun z => fX3_takes_m (xFG F) z v115) (Or.inl rfl) (ci := 39) (C := RX3) (T := TX3) rfl q3527 q3524 q3526 qs58 (xroom hRm (by omega) (by omega)) ⟨by decide, by decide⟩ n_X3_takes rfl (xcat (Nat.le_of_ble_eq_true rfl)) (fun v117 => ?_)
            refine xr_if_eq 127 F dX3_readFactor_120 rfl ?_ ?_
            · refine xr_aload_n 0 (r := (some a0)) F dX3_readFactor_127 rfl ?_
              refine xr_str (k := 28) F dX3_readFactor_128 rfl (fun v128 => ?_)
              refine xr_VI (y := yX3_takes) (As := [va_rf v128]) (r := (some a0)) F (hno _) dX3_readFactor_130 (fun z => fX3_takes_m (xFG F) z v128) (Or.inl rfl) (ci := 39) (C := RX3) (T := TX3) rfl q3527 q3524 q3526 qs58 (xroom hRm (by omega) (by omega)) ⟨by decide, by decide⟩ n_X3_takes rfl (xcat (Nat.le_of_ble_eq_true rfl)) (fun v130 => ?_)
              refine xr_if_eq 140 F dX3_readFactor_133 rfl ?_ ?_
              · refine xr_aload_n 0 (r := (some a0)) F dX3_readFactor_140 rfl ?_
                refine xr_str (k := 29) F dX3_readFactor_141 rfl (fun v141 => ?_)
                refine xr_VI (y := yX3_takes) (As := [va_rf v141]) (r := (some a0)) F (hno _) dX3_readFactor_143 (fun z => fX3_takes_m (xFG F) z v141) (Or.inl rfl) (ci := 39) (C := RX3) (T := TX3) rfl q3527 q3524 q3526 qs58 (xroom hRm (by omega) (by omega)) ⟨by decide, by decide⟩ n_X3_takes rfl (xcat (Nat.le_of_ble_eq_true rfl)) (fun v143 => ?_)
                refine xr_if_eq 153 F dX3_readFactor_146 rfl ?_ ?_
                · refine xr_aload_n 0 (r := (some a0)) F dX3_readFactor_153 rfl ?_
                  refine xr_str (k := 17) F dX3_readFactor_154 rfl (fun v154 => ?_)
                  refine xr_VI (y := yX3_takes) (As := [va_rf v154]) (r := (some a0)) F (hno _) dX3_readFactor_156 (fun z => fX3_takes_m (xFG F) z v154) (Or.inl rfl) (ci := 39) (C := RX3) (T := TX3) rfl q3527 q3524 q3526 qs58 (xroom hRm (by omega) (by omega)) ⟨by decide, by decide⟩ n_X3_takes rfl (xcat (Nat.le_of_ble_eq_true rfl)) (fun v156 => ?_)
                  refine xr_if_eq 166 F dX3_readFactor_159 rfl ?_ ?_
                  · refine xr_iconst (-1 : Int32) F dX3_readFactor_166 rfl ?_
                    exact xI.sub [0] rfl (fX3_readFactor_p167_ok hS F hnL hRm hno hmn a0 (-1 : Int32))
                  · refine xr_iconst (4 : Int32) F dX3_readFactor_162 rfl ?_
                    refine xr_goto 167 F dX3_readFactor_163 rfl ?_
                    exact xI.sub [0] rfl (fX3_readFactor_p167_ok hS F hnL hRm hno hmn a0 (4 : Int32))
                · refine xr_iconst (3 : Int32) F dX3_readFactor_149 rfl ?_
                  refine xr_goto 167 F dX3_readFactor_150 rfl ?_
                  exact xI.sub [0] rfl (fX3_readFactor_p167_ok hS F hnL hRm hno hmn a0 (3 : Int32))
              · refine xr_iconst (2 : Int32) F dX3_readFactor_136 rfl ?_
                refine xr_goto 167 F dX3_readFactor_137 rfl ?_
                exact xI.sub [0] rfl (fX3_readFactor_p167_ok hS F hnL hRm hno hmn a0 (2 : Int32))
            · refine xr_iconst (1 : Int32) F dX3_readFactor_123 rfl ?_
              refine xr_goto 167 F dX3_readFactor_124 rfl ?_
              exact xI.sub [0] rfl (fX3_readFactor_p167_ok hS F hnL hRm hno hmn a0 (1 : Int32))
          · refine xr_aload_n 0 (r := (some a0)) F dX3_readFactor_105 rfl ?_
            refine xr_bipush (10 : Int32) F dX3_readFactor_106 rfl ?_
            refine xr_VV (y := yX3_readPair) (As := [.int (10 : Int32)]) (r := (some a0)) F (hno _) dX3_readFactor_108 (fun z => fX3_readPair_m (xFG F) hS z (10 : Int32)) (Or.inl rfl) (ci := 39) (C := RX3) (T := TX3) rfl q3626 q3623 q3625 qs78 (xroom hRm (by omega) (by omega)) ⟨by decide, by decide⟩ n_X3_readPair rfl (xcat (Nat.le_of_ble_eq_true rfl)) (fun _ => ?_)
            refine xr_goto 188 F dX3_readFactor_111 rfl ?_
            exact xr_vret F dX3_readFactor_188
        · refine xr_aload_n 0 (r := (some a0)) F dX3_readFactor_87 rfl ?_
          refine xr_bipush (9 : Int32) F dX3_readFactor_88 rfl ?_
          refine xr_VV (y := yX3_readPair) (As := [.int (9 : Int32)]) (r := (some a0)) F (hno _) dX3_readFactor_90 (fun z => fX3_readPair_m (xFG F) hS z (9 : Int32)) (Or.inl rfl) (ci := 39) (C := RX3) (T := TX3) rfl q3626 q3623 q3625 qs78 (xroom hRm (by omega) (by omega)) ⟨by decide, by decide⟩ n_X3_readPair rfl (xcat (Nat.le_of_ble_eq_true rfl)) (fun _ => ?_)
          refine xr_goto 188 F dX3_readFactor_93 rfl ?_
          exact xr_vret F dX3_readFactor_188
      · refine xr_aload_n 0 (r := (some a0)) F dX3_readFactor_55 rfl ?_
        refine xr_VV (y := yX3_opensBracket) (As := []) (r := (some a0)) F (hno _) dX3_readFactor_56 (fun z => fX3_opensBracket_m (xFG F) z) (Or.inl rfl) (ci := 39) (C := RX3) (T := TX3) rfl q3609 q3606 q3608 qs74 (xroom hRm (by omega) (by omega)) ⟨by decide, by decide⟩ n_X3_opensBracket rfl (xcat (Nat.le_of_ble_eq_true rfl)) (fun _ => ?_)
        refine xr_aload_n 0 (r := (some a0)) F dX3_readFactor_59 rfl ?_
        refine xr_VI (y := yX3_hasFailed) (As := []) (r := (some a0)) F (hno _) dX3_readFactor_60 (fun z => fX3_hasFailed_m (xFG F) z) (Or.inl rfl) (ci := 39) (C := RX3) (T := TX3) rfl q3514 q3511 q3513 qs55 (xroom hRm (by omega) (by omega)) ⟨by decide, by decide⟩ n_X3_hasFailed rfl (xcat (Nat.le_of_ble_eq_true rfl)) (fun v60 => ?_)
        refine xr_if_eq 67 F dX3_readFactor_63 rfl ?_ ?_
        · refine xr_aload_n 0 (r := (some a0)) F dX3_readFactor_67 rfl ?_
          refine xr_VV (y := yX3_readSum) (As := []) (r := (some a0)) F (hno _) dX3_readFactor_68 (fun z => hS z) (Or.inl rfl) (ci := 39) (C := RX3) (T := TX3) rfl q3592 q3589 q3591 qs70 (xroom hRm (by omega) (by omega)) ⟨by decide, by decide⟩ n_X3_readSum rfl (xcat (Nat.le_of_ble_eq_true rfl)) (fun _ => ?_)
          refine xr_aload_n 0 (r := (some a0)) F dX3_readFactor_71 rfl ?_
          refine xr_VV (y := yX3_closesBracket) (As := []) (r := (some a0)) F (hno _) dX3_readFactor_72 (fun z => fX3_closesBracket_m (xFG F) z) (Or.inl rfl) (ci := 39) (C := RX3) (T := TX3) rfl q3613 q3610 q3612 qs75 (xroom hRm (by omega) (by omega)) ⟨by decide, by decide⟩ n_X3_closesBracket rfl (xcat (Nat.le_of_ble_eq_true rfl)) (fun _ => ?_)
          refine xr_goto 188 F dX3_readFactor_75 rfl ?_
          exact xr_vret F dX3_readFactor_188
        · exact xr_vret F dX3_readFactor_66
    · refine xr_aload_n 0 (r := (some a0)) F dX3_readFactor_23 rfl ?_
      refine xr_iconst (0 : Int32) F dX3_readFactor_24 rfl ?_
      refine xr_ldc F dX3_readFactor_25 q3601 ?_
      refine xr_VI (y := yX3_number) (As := [.int (0 : Int32), .int (999999 : Int32)]) (r := (some a0)) F (hno _) dX3_readFactor_27 (fun z => fX3_number_m (xFG F) z (0 : Int32) (999999 : Int32)) (Or.inl rfl) (ci := 39) (C := RX3) (T := TX3) rfl q3537 q3534 q3536 qs60 (xroom hRm (by omega) (by omega)) ⟨by decide, by decide⟩ n_X3_number rfl (xcat (Nat.le_of_ble_eq_true rfl)) (fun v27 => ?_)
      refine xs_i_n [0] F dX3_readFactor_30 hnL rfl rfl (xk2 rfl (xrf_cat _) xk0) ?_
      refine xr_aload_n 1 (r := (some a0)) F dX3_readFactor_31 rfl ?_
      refine xr_iconst (0 : Int32) F dX3_readFactor_32 rfl ?_
      refine xr_VV (y := yX3_puts) (As := [.int (0 : Int32)]) (r := (some a0)) F (hno _) dX3_readFactor_33 (fun z => fX3_puts_m (xFG F) z (0 : Int32)) (Or.inl rfl) (ci := 39) (C := RX3) (T := TX3) rfl q3605 q3602 q3604 qs73 (xroom hRm (by omega) (by omega)) ⟨by decide, by decide⟩ n_X3_puts rfl (xcat (Nat.le_of_ble_eq_true rfl)) (fun _ => ?_)
      refine xr_aload_n 1 (r := (some a0)) F dX3_readFactor_36 rfl ?_
      refine xr_iload_n 0 F dX3_readFactor_37 rfl ?_
      refine xr_VV (y := yX3_puts) (As := [.int v27]) (r := (some a0)) F (hno _) dX3_readFactor_38 (fun z => fX3_puts_m (xFG F) z v27) (Or.inl rfl) (ci := 39) (C := RX3) (T := TX3) rfl q3605 q3602 q3604 qs73 (xroom hRm (by omega) (by omega)) ⟨by decide, by decide⟩ n_X3_puts rfl (xcat (Nat.le_of_ble_eq_true rfl)) (fun _ => ?_)
      refine xr_goto 188 F dX3_readFactor_41 rfl ?_
      exact xr_vret F dX3_readFactor_188
  · exact xr_vret F dX3_readFactor_11
theorem fX3_readTerm_p79_ok {x : xC} {S : Nat → xM (Unit)} {frS loS : Nat} (hS : ∀ (b0_ : Nat), xMx x yX3_readSum (Cond.code yX3_readSum cX3_readSum 3 none) frS loS [.ref b0_] xeV (S b0_)) (F : xF x RX3 cX3_readTerm none) (hnL : xnL x = 3) (hRm : ∃ dc ds, x.2.2.2.1 = { frames := frS + 8, cells := dc, slots := ds, locals := loS + 160 }) (hno : ∀ pc, xNo x pc) (hmn : xmn x = "readTerm" ∧ xmy x yX3_readTerm) {k17 : Nat → Int32 → xM (Unit)} (hk17 : ∀ (l0 : Nat) (l1 : Int32), xI x xeV 17 [(0, va_rf (some l0)), (1, .int l1)] [] (k17 l0 l1)) (l0 : Nat) (l1 : Int32) : xI x xeV 79 [(0, va_rf (some l0)), (1, .int l1)] [] (fX3_readTerm_p79 S k17 l0 l1) := by
  unfold fX3_readTerm_p79
  refine xr_goto 17 F dX3_readTerm_79 rfl ?_
  exact xI.sub [0, 1] rfl (hk17 l0 l1)
theorem fX3_readTerm_p70_ok {x : xC} {S : Nat → xM (Unit)} {frS loS : Nat} (hS : ∀ (b0_ : Nat), xMx x yX3_readSum (Cond.code yX3_readSum cX3_readSum 3 none) frS loS [.ref b0_] xeV (S b0_)) (F : xF x RX3 cX3_readTerm none) (hnL : xnL x = 3) (hRm : ∃ dc ds, x.2.2.2.1 = { frames := frS + 8, cells := dc, slots := ds, locals := loS + 160 }) (hno : ∀ pc, xNo x pc) (hmn : xmn x = "readTerm" ∧ xmy x yX3_readTerm) {k17 : Nat → Int32 → xM (Unit)} (hk17 : ∀ (l0 : Nat) (l1 : Int32), xI x xeV 17 [(0, va_rf (some l0)), (1, .int l1)] [] (k17 l0 l1)) (l0 : Nat) (l1 : Int32) (l2 : Int32) : xI x xeV 70 [(0, va_rf (some l0)), (1, .int l1), (2, .int l2)] [] (fX3_readTerm_p70 S k17 l0 l1 l2) := by
  unfold fX3_readTerm_p70
  refine xr_iload_n 1 F dX3_readTerm_70 rfl ?_
  refine xr_if_eq 79 F dX3_readTerm_71 rfl ?_ ?_
  · exact xI.sub [0, 1] rfl (fX3_readTerm_p79_ok hS F hnL hRm hno hmn hk17 l0 l1)
  · refine xr_aload_n 0 (r := (some l0)) F dX3_readTerm_74 rfl ?_
    refine xr_iload_n 2 F dX3_readTerm_75 rfl ?_
    refine xr_VV (y := yX3_puts) (As := [.int l2]) (r := (some l0)) F (hno _) dX3_readTerm_76 (fun z => fX3_puts_m (xFG F) z l2) (Or.inl rfl) (ci := 39) (C := RX3) (T := TX3) rfl q3605 q3602 q3604 qs73 (xroom hRm (by omega) (by omega)) ⟨by decide, by decide⟩ n_X3_puts rfl (xcat (Nat.le_of_ble_eq_true rfl)) (fun _ => ?_)
    exact xI.sub [0, 1] rfl (fX3_readTerm_p79_ok hS F hnL hRm hno hmn hk17 l0 l1)
theorem fX3_readTerm_p61_ok {x : xC} {S : Nat → xM (Unit)} {frS loS : Nat} (hS : ∀ (b0_ : Nat), xMx x yX3_readSum (Cond.code yX3_readSum cX3_readSum 3 none) frS loS [.ref b0_] xeV (S b0_)) (F : xF x RX3 cX3_readTerm none) (hnL : xnL x = 3) (hRm : ∃ dc ds, x.2.2.2.1 = { frames := frS + 8, cells := dc, slots := ds, locals := loS + 160 }) (hno : ∀ pc, xNo x pc) (hmn : xmn x = "readTerm" ∧ xmy x yX3_readTerm) {k17 : Nat → Int32 → xM (Unit)} (hk17 : ∀ (l0 : Nat) (l1 : Int32), xI x xeV 17 [(0, va_rf (some l0)), (1, .int l1)] [] (k17 l0 l1)) (l0 : Nat) (l2 : Int32) (s0 : Int32) : xI x xeV 61 [(0, va_rf (some l0)), (2, .int l2)] [.int s0] (fX3_readTerm_p61 S k17 l0 l2 s0) := by
  unfold fX3_readTerm_p61
  refine xs_i_n [0, 1] F dX3_readTerm_61 hnL rfl rfl (xk2 rfl (xrf_cat _) (xk1 rfl rfl xk0)) ?_
  refine xr_iload_n 0 F dX3_readTerm_62 rfl ?_
  refine xr_if_eq 70 F dX3_readTerm_63 rfl ?_ ?_
  · exact xI.sub [1, 0, 2] rfl (fX3_readTerm_p70_ok hS F hnL hRm hno hmn hk17 l0 s0 l2)
  · refine xr_aload_n 1 (r := (some l0)) F dX3_readTerm_66 rfl ?_
    refine xr_VV (y := yX3_readFactor) (As := []) (r := (some l0)) F (hno _) dX3_readTerm_67 (fun z => fX3_readFactor_m (xFG F) hS z) (Or.inl rfl) (ci := 39) (C := RX3) (T := TX3) rfl q3600 q3597 q3599 qs72 (xroom hRm (by omega) (by omega)) ⟨by decide, by decide⟩ n_X3_readFactor rfl (xcat (Nat.le_of_ble_eq_true rfl)) (fun _ => ?_)
    exact xI.sub [1, 0, 2] rfl (fX3_readTerm_p70_ok hS F hnL hRm hno hmn hk17 l0 s0 l2)
theorem fX3_readTerm_p50_ok {x : xC} {S : Nat → xM (Unit)} {frS loS : Nat} (hS : ∀ (b0_ : Nat), xMx x yX3_readSum (Cond.code yX3_readSum cX3_readSum 3 none) frS loS [.ref b0_] xeV (S b0_)) (F : xF x RX3 cX3_readTerm none) (hnL : xnL x = 3) (hRm : ∃ dc ds, x.2.2.2.1 = { frames := frS + 8, cells := dc, slots := ds, locals := loS + 160 }) (hno : ∀ pc, xNo x pc) (hmn : xmn x = "readTerm" ∧ xmy x yX3_readTerm) {k17 : Nat → Int32 → xM (Unit)} (hk17 : ∀ (l0 : Nat) (l1 : Int32), xI x xeV 17 [(0, va_rf (some l0)), (1, .int l1)] [] (k17 l0 l1)) (l0 : Nat) (s0 : Int32) : xI x xeV 50 [(0, va_rf (some l0))] [.int s0] (fX3_readTerm_p50 S k17 l0 s0) := by
  unfold fX3_readTerm_p50
  refine xs_i_n [0] F dX3_readTerm_50 hnL rfl rfl (xk1 rfl rfl xk0) ?_
  refine xr_iload_n 0 F dX3_readTerm_51 rfl ?_
  refine xr_iconst (-1 : Int32) F dX3_readTerm_52 rfl ?_
  refine xr_icmp_eq 60 F dX3_readTerm_53 rfl ?_ ?_
  · refine xr_iconst (0 : Int32) F dX3_readTerm_60 rfl ?_
    exact xI.sub [1, 0] rfl (fX3_readTerm_p61_ok hS F hnL hRm hno hmn hk17 l0 s0 (0 : Int32))
  · refine xr_iconst (1 : Int32) F dX3_readTerm_56 rfl ?_
    refine xr_goto 61 F dX3_readTerm_57 rfl ?_
    exact xI.sub [1, 0] rfl (fX3_readTerm_p61_ok hS F hnL hRm hno hmn hk17 l0 s0 (1 : Int32))
theorem fX3_readTerm_p17_ok {x : xC} {S : Nat → xM (Unit)} {frS loS : Nat} (hS : ∀ (b0_ : Nat), xMx x yX3_readSum (Cond.code yX3_readSum cX3_readSum 3 none) frS loS [.ref b0_] xeV (S b0_)) (F : xF x RX3 cX3_readTerm none) (hnL : xnL x = 3) (hRm : ∃ dc ds, x.2.2.2.1 = { frames := frS + 8, cells := dc, slots := ds, locals := loS + 160 }) (hno : ∀ pc, xNo x pc) (hmn : xmn x = "readTerm" ∧ xmy x yX3_readTerm) : ∀ (n : Nat) (l0 : Nat) (l1 : Int32), xI x xeV 17 [(0, va_rf (some l0)), (1, .int l1)] [] (fX3_readTerm_p17 S n l0 l1) := by
  intro n
  induction n with
  | zero => intro l0 l1; exact xI.stuck
  | succ n ih =>
    intro l0 l1
    unfold fX3_readTerm_p17
    refine xr_iload_n 1 F dX3_readTerm_17 rfl ?_
    refine xr_if_eq 82 F dX3_readTerm_18 rfl ?_ ?_
    · exact xr_vret F dX3_readTerm_82
    · refine xr_aload_n 0 (r := (some l0)) F dX3_readTerm_21 rfl ?_
      refine xr_bipush (42 : Int32) F dX3_readTerm_22 rfl ?_
      refine xr_VI (y := yX3_takesSign) (As := [.int (42 : Int32)]) (r := (some l0)) F (hno _) dX3_readTerm_24 (fun z => fX3_takesSign_m (xFG F) z (42 : Int32)) (Or.inl rfl) (ci := 39) (C := RX3) (T := TX3) rfl q3621 q3618 q3620 qs77 (xroom hRm (by omega) (by omega)) ⟨by decide, by decide⟩ n_X3_takesSign rfl (xcat (Nat.le_of_ble_eq_true rfl)) (fun v24 => ?_)
      refine xr_if_eq 35 F dX3_readTerm_27 rfl ?_ ?_
      · refine xr_aload_n 0 (r := (some l0)) F dX3_readTerm_35 rfl ?_
        refine xr_bipush (47 : Int32) F dX3_readTerm_36 rfl ?_
        refine xr_VI (y := yX3_takesSign) (As := [.int (47 : Int32)]) (r := (some l0)) F (hno _) dX3_readTerm_38 (fun z => fX3_takesSign_m (xFG F) z (47 : Int32)) (Or.inl rfl) (ci := 39) (C := RX3) (T := TX3) rfl q3621 q3618 q3620 qs77 (xroom hRm (by omega) (by omega)) ⟨by decide, by decide⟩ n_X3_takesSign rfl (xcat (Nat.le_of_ble_eq_true rfl)) (fun v38 => ?_)
        refine xr_if_eq 49 F dX3_readTerm_41 rfl ?_ ?_
        · refine xr_iconst (-1 : Int32) F dX3_readTerm_49 rfl ?_
          exact xI.sub [0] rfl (fX3_readTerm_p50_ok hS F hnL hRm hno hmn ih l0 (-1 : Int32))
        · refine xr_bipush (8 : Int32) F dX3_readTerm_44 rfl ?_
          refine xr_goto 50 F dX3_readTerm_46 rfl ?_
          exact xI.sub [0] rfl (fX3_readTerm_p50_ok hS F hnL hRm hno hmn ih l0 (8 : Int32))
      · refine xr_bipush (7 : Int32) F dX3_readTerm_30 rfl ?_
        refine xr_goto 50 F dX3_readTerm_32 rfl ?_
        exact xI.sub [0] rfl (fX3_readTerm_p50_ok hS F hnL hRm hno hmn ih l0 (7 : Int32))
theorem fX3_readTerm_p16_ok {x : xC} {S : Nat → xM (Unit)} {frS loS : Nat} (hS : ∀ (b0_ : Nat), xMx x yX3_readSum (Cond.code yX3_readSum cX3_readSum 3 none) frS loS [.ref b0_] xeV (S b0_)) (F : xF x RX3 cX3_readTerm none) (hnL : xnL x = 3) (hRm : ∃ dc ds, x.2.2.2.1 = { frames := frS + 8, cells := dc, slots := ds, locals := loS + 160 }) (hno : ∀ pc, xNo x pc) (hmn : xmn x = "readTerm" ∧ xmy x yX3_readTerm) (l0 : Nat) (s0 : Int32) : xI x xeV 16 [(0, va_rf (some l0))] [.int s0] (fX3_readTerm_p16 S l0 s0) := by
  unfold fX3_readTerm_p16
  refine xs_i_n [0] F dX3_readTerm_16 hnL rfl rfl (xk2 rfl (xrf_cat _) xk0) ?_
  exact xI.sub [1, 0] rfl (fX3_readTerm_p17_ok hS F hnL hRm hno hmn xFU l0 s0)
theorem fX3_readTerm_m {l : Launch} {D : xD} {s0 : State} {b0 : Nat} {Γ : Nat → Option Nat} (G : xG l D s0 b0 Γ) {S : Nat → xM (Unit)} {frS loS : Nat} (hS : ∀ (b0_ : Nat), xMeth l D s0 Γ yX3_readSum (Cond.code yX3_readSum cX3_readSum 3 none) frS loS [.ref b0_] xeV (S b0_)) (a0 : Nat) : xMeth l D s0 Γ yX3_readTerm (Cond.code yX3_readTerm cX3_readTerm 3 none) (frS + 8) (loS + 160) [.ref a0] xeV (fX3_readTerm S a0) := by
  refine xMeth.of (lv0 := [(0, va_rf (some a0))]) G (by decide +kernel) (Or.inl rfl) (Nat.le_of_ble_eq_true rfl) rfl (fun x F hnL hRm hmn ht e1 e2 e3 e4 => ?_)
  have hno : ∀ pc, xNo x pc := fun pc z hz => by rw [ht.1 rfl] at hz; cases hz
  have hS : ∀ (b0_ : Nat), xMx x yX3_readSum (Cond.code yX3_readSum cX3_readSum 3 none) frS loS [.ref b0_] xeV (S b0_) := by
    intro b0_
    unfold xMx
    rw [e1, e2, e3, e4]
    exact hS b0_
  unfold fX3_readTerm
  refine xr_aload_n 0 (r := (some a0)) F dX3_readTerm_0 rfl ?_
  refine xr_VV (y := yX3_readFactor) (As := []) (r := (some a0)) F (hno _) dX3_readTerm_1 (fun z => fX3_readFactor_m (xFG F) hS z) (Or.inl rfl) (ci := 39) (C := RX3) (T := TX3) rfl q3600 q3597 q3599 qs72 (xroom hRm (by omega) (by omega)) ⟨by decide, by decide⟩ n_X3_readFactor rfl (xcat (Nat.le_of_ble_eq_true rfl)) (fun _ => ?_)
  refine xr_aload_n 0 (r := (some a0)) F dX3_readTerm_4 rfl ?_
  refine xr_VI (y := yX3_hasFailed) (As := []) (r := (some a0)) F (hno _) dX3_readTerm_5 (fun z => fX3_hasFailed_m (xFG F) z) (Or.inl rfl) (ci := 39) (C := RX3) (T := TX3) rfl q3514 q3511 q3513 qs55 (xroom hRm (by omega) (by omega)) ⟨by decide, by decide⟩ n_X3_hasFailed rfl (xcat (Nat.le_of_ble_eq_true rfl)) (fun v5 => ?_)
  refine xr_if_ne 15 F dX3_readTerm_8 rfl ?_ ?_
  · refine xr_iconst (1 : Int32) F dX3_readTerm_11 rfl ?_
    refine xr_goto 16 F dX3_readTerm_12 rfl ?_
    exact xI.sub [0] rfl (fX3_readTerm_p16_ok hS F hnL hRm hno hmn a0 (1 : Int32))
  · refine xr_iconst (0 : Int32) F dX3_readTerm_15 rfl ?_
    exact xI.sub [0] rfl (fX3_readTerm_p16_ok hS F hnL hRm hno hmn a0 (0 : Int32))
theorem fX3_readSum_p78_ok {x : xC} {S : Nat → xM (Unit)} {frS loS : Nat} (hS : ∀ (b0_ : Nat), xMx x yX3_readSum (Cond.code yX3_readSum cX3_readSum 3 none) frS loS [.ref b0_] xeV (S b0_)) (F : xF x RX3 cX3_readSum none) (hnL : xnL x = 3) (hRm : ∃ dc ds, x.2.2.2.1 = { frames := frS + 9, cells := dc, slots := ds, locals := loS + 182 }) (hno : ∀ pc, xNo x pc) (hmn : xmn x = "readSum" ∧ xmy x yX3_readSum) {k17 : Nat → Int32 → xM (Unit)} (hk17 : ∀ (l0 : Nat) (l1 : Int32), xI x xeV 17 [(0, va_rf (some l0)), (1, .int l1)] [] (k17 l0 l1)) (l0 : Nat) (l1 : Int32) : xI x xeV 78 [(0, va_rf (some l0)), (1, .int l1)] [] (fX3_readSum_p78 S k17 l0 l1) := by
  unfold fX3_readSum_p78
  refine xr_goto 17 F dX3_readSum_78 rfl ?_
  exact xI.sub [0, 1] rfl (hk17 l0 l1)
theorem fX3_readSum_p69_ok {x : xC} {S : Nat → xM (Unit)} {frS loS : Nat} (hS : ∀ (b0_ : Nat), xMx x yX3_readSum (Cond.code yX3_readSum cX3_readSum 3 none) frS loS [.ref b0_] xeV (S b0_)) (F : xF x RX3 cX3_readSum none) (hnL : xnL x = 3) (hRm : ∃ dc ds, x.2.2.2.1 = { frames := frS + 9, cells := dc, slots := ds, locals := loS + 182 }) (hno : ∀ pc, xNo x pc) (hmn : xmn x = "readSum" ∧ xmy x yX3_readSum) {k17 : Nat → Int32 → xM (Unit)} (hk17 : ∀ (l0 : Nat) (l1 : Int32), xI x xeV 17 [(0, va_rf (some l0)), (1, .int l1)] [] (k17 l0 l1)) (l0 : Nat) (l1 : Int32) (l2 : Int32) : xI x xeV 69 [(0, va_rf (some l0)), (1, .int l1), (2, .int l2)] [] (fX3_readSum_p69 S k17 l0 l1 l2) := by
  unfold fX3_readSum_p69
  refine xr_iload_n 1 F dX3_readSum_69 rfl ?_
  refine xr_if_eq 78 F dX3_readSum_70 rfl ?_ ?_
  · exact xI.sub [0, 1] rfl (fX3_readSum_p78_ok hS F hnL hRm hno hmn hk17 l0 l1)
  · refine xr_aload_n 0 (r := (some l0)) F dX3_readSum_73 rfl ?_
    refine xr_iload_n 2 F dX3_readSum_74 rfl ?_
    refine xr_VV (y := yX3_puts) (As := [.int l2]) (r := (some l0)) F (hno _) dX3_readSum_75 (fun z => fX3_puts_m (xFG F) z l2) (Or.inl rfl) (ci := 39) (C := RX3) (T := TX3) rfl q3605 q3602 q3604 qs73 (xroom hRm (by omega) (by omega)) ⟨by decide, by decide⟩ n_X3_puts rfl (xcat (Nat.le_of_ble_eq_true rfl)) (fun _ => ?_)
    exact xI.sub [0, 1] rfl (fX3_readSum_p78_ok hS F hnL hRm hno hmn hk17 l0 l1)
theorem fX3_readSum_p60_ok {x : xC} {S : Nat → xM (Unit)} {frS loS : Nat} (hS : ∀ (b0_ : Nat), xMx x yX3_readSum (Cond.code yX3_readSum cX3_readSum 3 none) frS loS [.ref b0_] xeV (S b0_)) (F : xF x RX3 cX3_readSum none) (hnL : xnL x = 3) (hRm : ∃ dc ds, x.2.2.2.1 = { frames := frS + 9, cells := dc, slots := ds, locals := loS + 182 }) (hno : ∀ pc, xNo x pc) (hmn : xmn x = "readSum" ∧ xmy x yX3_readSum) {k17 : Nat → Int32 → xM (Unit)} (hk17 : ∀ (l0 : Nat) (l1 : Int32), xI x xeV 17 [(0, va_rf (some l0)), (1, .int l1)] [] (k17 l0 l1)) (l0 : Nat) (l2 : Int32) (s0 : Int32) : xI x xeV 60 [(0, va_rf (some l0)), (2, .int l2)] [.int s0] (fX3_readSum_p60 S k17 l0 l2 s0) := by
  unfold fX3_readSum_p60
  refine xs_i_n [0, 1] F dX3_readSum_60 hnL rfl rfl (xk2 rfl (xrf_cat _) (xk1 rfl rfl xk0)) ?_
  refine xr_iload_n 0 F dX3_readSum_61 rfl ?_
  refine xr_if_eq 69 F dX3_readSum_62 rfl ?_ ?_
  · exact xI.sub [1, 0, 2] rfl (fX3_readSum_p69_ok hS F hnL hRm hno hmn hk17 l0 s0 l2)
  · refine xr_aload_n 1 (r := (some l0)) F dX3_readSum_65 rfl ?_
    refine xr_VV (y := yX3_readTerm) (As := []) (r := (some l0)) F (hno _) dX3_readSum_66 (fun z => fX3_readTerm_m (xFG F) hS z) (Or.inl rfl) (ci := 39) (C := RX3) (T := TX3) rfl q3596 q3593 q3595 qs71 (xroom hRm (by omega) (by omega)) ⟨by decide, by decide⟩ n_X3_readTerm rfl (xcat (Nat.le_of_ble_eq_true rfl)) (fun _ => ?_)
    exact xI.sub [1, 0, 2] rfl (fX3_readSum_p69_ok hS F hnL hRm hno hmn hk17 l0 s0 l2)
theorem fX3_readSum_p49_ok {x : xC} {S : Nat → xM (Unit)} {frS loS : Nat} (hS : ∀ (b0_ : Nat), xMx x yX3_readSum (Cond.code yX3_readSum cX3_readSum 3 none) frS loS [.ref b0_] xeV (S b0_)) (F : xF x RX3 cX3_readSum none) (hnL : xnL x = 3) (hRm : ∃ dc ds, x.2.2.2.1 = { frames := frS + 9, cells := dc, slots := ds, locals := loS + 182 }) (hno : ∀ pc, xNo x pc) (hmn : xmn x = "readSum" ∧ xmy x yX3_readSum) {k17 : Nat → Int32 → xM (Unit)} (hk17 : ∀ (l0 : Nat) (l1 : Int32), xI x xeV 17 [(0, va_rf (some l0)), (1, .int l1)] [] (k17 l0 l1)) (l0 : Nat) (s0 : Int32) : xI x xeV 49 [(0, va_rf (some l0))] [.int s0] (fX3_readSum_p49 S k17 l0 s0) := by
  unfold fX3_readSum_p49
  refine xs_i_n [0] F dX3_readSum_49 hnL rfl rfl (xk1 rfl rfl xk0) ?_
  refine xr_iload_n 0 F dX3_readSum_50 rfl ?_
  refine xr_iconst (-1 : Int32) F dX3_readSum_51 rfl ?_
  refine xr_icmp_eq 59 F dX3_readSum_52 rfl ?_ ?_
  · refine xr_iconst (0 : Int32) F dX3_readSum_59 rfl ?_
    exact xI.sub [1, 0] rfl (fX3_readSum_p60_ok hS F hnL hRm hno hmn hk17 l0 s0 (0 : Int32))
  · refine xr_iconst (1 : Int32) F dX3_readSum_55 rfl ?_
    refine xr_goto 60 F dX3_readSum_56 rfl ?_
    exact xI.sub [1, 0] rfl (fX3_readSum_p60_ok hS F hnL hRm hno hmn hk17 l0 s0 (1 : Int32))
theorem fX3_readSum_p17_ok {x : xC} {S : Nat → xM (Unit)} {frS loS : Nat} (hS : ∀ (b0_ : Nat), xMx x yX3_readSum (Cond.code yX3_readSum cX3_readSum 3 none) frS loS [.ref b0_] xeV (S b0_)) (F : xF x RX3 cX3_readSum none) (hnL : xnL x = 3) (hRm : ∃ dc ds, x.2.2.2.1 = { frames := frS + 9, cells := dc, slots := ds, locals := loS + 182 }) (hno : ∀ pc, xNo x pc) (hmn : xmn x = "readSum" ∧ xmy x yX3_readSum) : ∀ (n : Nat) (l0 : Nat) (l1 : Int32), xI x xeV 17 [(0, va_rf (some l0)), (1, .int l1)] [] (fX3_readSum_p17 S n l0 l1) := by
  intro n
  induction n with
  | zero => intro l0 l1; exact xI.stuck
  | succ n ih =>
    intro l0 l1
    unfold fX3_readSum_p17
    refine xr_iload_n 1 F dX3_readSum_17 rfl ?_
    refine xr_if_eq 81 F dX3_readSum_18 rfl ?_ ?_
    · exact xr_vret F dX3_readSum_81
    · refine xr_aload_n 0 (r := (some l0)) F dX3_readSum_21 rfl ?_
      refine xr_bipush (43 : Int32) F dX3_readSum_22 rfl ?_
      refine xr_VI (y := yX3_takesSign) (As := [.int (43 : Int32)]) (r := (some l0)) F (hno _) dX3_readSum_24 (fun z => fX3_takesSign_m (xFG F) z (43 : Int32)) (Or.inl rfl) (ci := 39) (C := RX3) (T := TX3) rfl q3621 q3618 q3620 qs77 (xroom hRm (by omega) (by omega)) ⟨by decide, by decide⟩ n_X3_takesSign rfl (xcat (Nat.le_of_ble_eq_true rfl)) (fun v24 => ?_)
      refine xr_if_eq 34 F dX3_readSum_27 rfl ?_ ?_
      · refine xr_aload_n 0 (r := (some l0)) F dX3_readSum_34 rfl ?_
        refine xr_bipush (45 : Int32) F dX3_readSum_35 rfl ?_
        refine xr_VI (y := yX3_takesSign) (As := [.int (45 : Int32)]) (r := (some l0)) F (hno _) dX3_readSum_37 (fun z => fX3_takesSign_m (xFG F) z (45 : Int32)) (Or.inl rfl) (ci := 39) (C := RX3) (T := TX3) rfl q3621 q3618 q3620 qs77 (xroom hRm (by omega) (by omega)) ⟨by decide, by decide⟩ n_X3_takesSign rfl (xcat (Nat.le_of_ble_eq_true rfl)) (fun v37 => ?_)
        refine xr_if_eq 48 F dX3_readSum_40 rfl ?_ ?_
        · refine xr_iconst (-1 : Int32) F dX3_readSum_48 rfl ?_
          exact xI.sub [0] rfl (fX3_readSum_p49_ok hS F hnL hRm hno hmn ih l0 (-1 : Int32))
        · refine xr_bipush (6 : Int32) F dX3_readSum_43 rfl ?_
          refine xr_goto 49 F dX3_readSum_45 rfl ?_
          exact xI.sub [0] rfl (fX3_readSum_p49_ok hS F hnL hRm hno hmn ih l0 (6 : Int32))
      · refine xr_iconst (5 : Int32) F dX3_readSum_30 rfl ?_
        refine xr_goto 49 F dX3_readSum_31 rfl ?_
        exact xI.sub [0] rfl (fX3_readSum_p49_ok hS F hnL hRm hno hmn ih l0 (5 : Int32))
theorem fX3_readSum_p16_ok {x : xC} {S : Nat → xM (Unit)} {frS loS : Nat} (hS : ∀ (b0_ : Nat), xMx x yX3_readSum (Cond.code yX3_readSum cX3_readSum 3 none) frS loS [.ref b0_] xeV (S b0_)) (F : xF x RX3 cX3_readSum none) (hnL : xnL x = 3) (hRm : ∃ dc ds, x.2.2.2.1 = { frames := frS + 9, cells := dc, slots := ds, locals := loS + 182 }) (hno : ∀ pc, xNo x pc) (hmn : xmn x = "readSum" ∧ xmy x yX3_readSum) (l0 : Nat) (s0 : Int32) : xI x xeV 16 [(0, va_rf (some l0))] [.int s0] (fX3_readSum_p16 S l0 s0) := by
  unfold fX3_readSum_p16
  refine xs_i_n [0] F dX3_readSum_16 hnL rfl rfl (xk2 rfl (xrf_cat _) xk0) ?_
  exact xI.sub [1, 0] rfl (fX3_readSum_p17_ok hS F hnL hRm hno hmn xFU l0 s0)
theorem fX3_readSum_b_m {l : Launch} {D : xD} {s0 : State} {b0 : Nat} {Γ : Nat → Option Nat} (G : xG l D s0 b0 Γ) {S : Nat → xM (Unit)} {frS loS : Nat} (hS : ∀ (b0_ : Nat), xMeth l D s0 Γ yX3_readSum (Cond.code yX3_readSum cX3_readSum 3 none) frS loS [.ref b0_] xeV (S b0_)) (a0 : Nat) : xMeth l D s0 Γ yX3_readSum (Cond.code yX3_readSum cX3_readSum 3 none) (frS + 9) (loS + 182) [.ref a0] xeV (fX3_readSum_b S a0) := by
  refine xMeth.of (lv0 := [(0, va_rf (some a0))]) G (by decide +kernel) (Or.inl rfl) (Nat.le_of_ble_eq_true rfl) rfl (fun x F hnL hRm hmn ht e1 e2 e3 e4 => ?_)
  have hno : ∀ pc, xNo x pc := fun pc z hz => by rw [ht.1 rfl] at hz; cases hz
  have hS : ∀ (b0_ : Nat), xMx x yX3_readSum (Cond.code yX3_readSum cX3_readSum 3 none) frS loS [.ref b0_] xeV (S b0_) := by
    intro b0_
    unfold xMx
    rw [e1, e2, e3, e4]
    exact hS b0_
  unfold fX3_readSum_b
  refine xr_aload_n 0 (r := (some a0)) F dX3_readSum_0 rfl ?_
  refine xr_VV (y := yX3_readTerm) (As := []) (r := (some a0)) F (hno _) dX3_readSum_1 (fun z => fX3_readTerm_m (xFG F) hS z) (Or.inl rfl) (ci := 39) (C := RX3) (T := TX3) rfl q3596 q3593 q3595 qs71 (xroom hRm (by omega) (by omega)) ⟨by decide, by decide⟩ n_X3_readTerm rfl (xcat (Nat.le_of_ble_eq_true rfl)) (fun _ => ?_)
  refine xr_aload_n 0 (r := (some a0)) F dX3_readSum_4 rfl ?_
  refine xr_VI (y := yX3_hasFailed) (As := []) (r := (some a0)) F (hno _) dX3_readSum_5 (fun z => fX3_hasFailed_m (xFG F) z) (Or.inl rfl) (ci := 39) (C := RX3) (T := TX3) rfl q3514 q3511 q3513 qs55 (xroom hRm (by omega) (by omega)) ⟨by decide, by decide⟩ n_X3_hasFailed rfl (xcat (Nat.le_of_ble_eq_true rfl)) (fun v5 => ?_)
  refine xr_if_ne 15 F dX3_readSum_8 rfl ?_ ?_
  · refine xr_iconst (1 : Int32) F dX3_readSum_11 rfl ?_
    refine xr_goto 16 F dX3_readSum_12 rfl ?_
    exact xI.sub [0] rfl (fX3_readSum_p16_ok hS F hnL hRm hno hmn a0 (1 : Int32))
  · refine xr_iconst (0 : Int32) F dX3_readSum_15 rfl ?_
    exact xI.sub [0] rfl (fX3_readSum_p16_ok hS F hnL hRm hno hmn a0 (0 : Int32))
theorem fX3_readSum_m {l : Launch} {D : xD} {s0 : State} {b0 : Nat} {Γ : Nat → Option Nat} (G : xG l D s0 b0 Γ) : ∀ (d : Nat) (a0 : Nat), xMeth l D s0 Γ yX3_readSum (Cond.code yX3_readSum cX3_readSum 3 none) (9 * d + 1) (182 * d + 12) [.ref a0] xeV (fX3_readSum d a0) := by
  intro d
  induction d with
  | zero => intro a0 h n o h2 dc ds he; cases he
  | succ d ih =>
    intro a0
    have e1 : 9 * (d + 1) + 1 = (9 * d + 1) + 9 := by omega
    have e2 : 182 * (d + 1) + 12 = (182 * d + 12) + 182 := by omega
    rw [e1, e2]
    exact fX3_readSum_b_m G ih a0
theorem fX3_readAllow_m {l : Launch} {D : xD} {s0 : State} {b0 : Nat} {Γ : Nat → Option Nat} (G : xG l D s0 b0 Γ) (a0 : Nat) (p0 : Int32) : xMeth l D s0 Γ yX3_readAllow (Cond.code yX3_readAllow cX3_readAllow 2 none) (362) (7314) [.ref a0, .int p0] xeV (fX3_readAllow a0 p0) := by
  refine xMeth.of (lv0 := [(0, va_rf (some a0)), (1, .int p0)]) G (by decide +kernel) (Or.inl rfl) (Nat.le_of_ble_eq_true rfl) rfl (fun x F hnL hRm hmn ht e1 e2 e3 e4 => ?_)
  have hno : ∀ pc, xNo x pc := fun pc z hz => by rw [ht.1 rfl] at hz; cases hz
  unfold fX3_readAllow
  refine xr_aload_n 0 (r := (some a0)) F dX3_readAllow_0 rfl ?_
  refine xr_sipush (1401 : Int32) F dX3_readAllow_1 rfl ?_
  refine xr_iload_n 1 F dX3_readAllow_4 rfl ?_
  refine xr_imul F dX3_readAllow_5 ?_
  refine xr_put (r := (some a0)) (ref := "ReserveLedgerModel") F dX3_readAllow_6 xk_39 (by decide) (Or.inl q3414) (Or.inl rfl) (Or.inl rfl) ⟨rfl, rfl⟩ ?_
  refine xr_aload_n 0 (r := (some a0)) F dX3_readAllow_9 rfl ?_
  refine xr_gR (r := (some a0)) (ref := "ReserveLedgerModel") F dX3_readAllow_10 (C := RX3) (T := TX3) (N := 25) rfl (by decide) (Or.inl q3401) (Or.inl rfl) (fun v10 => ?_)
  refine xr_aload_n 0 (r := (some a0)) F dX3_readAllow_13 rfl ?_
  refine xr_gI (r := (some a0)) (ref := "ReserveLedgerModel") F dX3_readAllow_14 (C := RX3) (T := TX3) (N := 25) rfl (by decide) (Or.inl q3414) (Or.inl rfl) (fun v14 => ?_)
  refine xr_iconst (0 : Int32) F dX3_readAllow_17 rfl ?_
  refine xr_iast (r := v10) F dX3_readAllow_18 ?_
  refine xr_aload_n 0 (r := (some a0)) F dX3_readAllow_19 rfl ?_
  refine xr_iconst (0 : Int32) F dX3_readAllow_20 rfl ?_
  refine xr_put (r := (some a0)) (ref := "ReserveLedgerModel") F dX3_readAllow_21 xk_39 (by decide) (Or.inl q3415) (Or.inl rfl) (Or.inl rfl) ⟨rfl, rfl⟩ ?_
  refine xr_aload_n 0 (r := (some a0)) F dX3_readAllow_24 rfl ?_
  refine xr_VV (y := yX3_readSum) (As := []) (r := (some a0)) F (hno _) dX3_readAllow_25 (fun z => fX3_readSum_m (xFG F) 40 z) (Or.inl rfl) (ci := 39) (C := RX3) (T := TX3) rfl q3592 q3589 q3591 qs70 (xroom hRm (Nat.le_of_ble_eq_true rfl) (Nat.le_of_ble_eq_true rfl)) ⟨by decide, by decide⟩ n_X3_readSum rfl (xcat (Nat.le_of_ble_eq_true rfl)) (fun _ => ?_)
  exact xr_vret F dX3_readAllow_28
theorem fX3_readRow_p34_ok {x : xC} (F : xF x RX3 cX3_readRow none) (hnL : xnL x = 6) (hRm : ∃ dc ds, x.2.2.2.1 = { frames := 4, cells := dc, slots := ds, locals := 77 }) (hno : ∀ pc, xNo x pc) (hmn : xmn x = "readRow" ∧ xmy x yX3_readRow) {k3 : Nat → Int32 → Int32 → Int32 → Int32 → xM (Unit)} (hk3 : ∀ (l0 : Nat) (l1 : Int32) (l2 : Int32) (l3 : Int32) (l4 : Int32), xI x xeV 3 [(0, va_rf (some l0)), (1, .int l1), (2, .int l2), (3, .int l3), (4, .int l4)] [] (k3 l0 l1 l2 l3 l4)) (l0 : Nat) (l1 : Int32) (l2 : Int32) (l3 : Int32) (l4 : Int32) (s0 : Int32) (s1 : Nat) : xI x xeV 34 [(0, va_rf (some l0)), (1, .int l1), (2, .int l2), (3, .int l3), (4, .int l4)] [.int s0, va_rf (some s1)] (fX3_readRow_p34 k3 l0 l1 l2 l3 l4 s0 s1) := by
  unfold fX3_readRow_p34
  refine xr_iconst (5 : Int32) F dX3_readRow_34 rfl ?_
  refine xr_VV (y := yX3_must) (As := [.int s0, .int (5 : Int32)]) (r := (some s1)) F (hno _) dX3_readRow_35 (fun z => fX3_must_m (xFG F) z s0 (5 : Int32)) (Or.inl rfl) (ci := 39) (C := RX3) (T := TX3) rfl q3541 q3538 q3540 qs61 (xroom hRm (Nat.le_of_ble_eq_true rfl) (Nat.le_of_ble_eq_true rfl)) ⟨by decide, by decide⟩ n_X3_must rfl (xcat (Nat.le_of_ble_eq_true rfl)) (fun _ => ?_)
  refine xr_aload_n 0 (r := (some l0)) F dX3_readRow_38 rfl ?_
  refine xr_iconst (0 : Int32) F dX3_readRow_39 rfl ?_
  refine xr_iload_n 3 F dX3_readRow_40 rfl ?_
  refine xr_VI (y := yX3_number) (As := [.int (0 : Int32), .int l3]) (r := (some l0)) F (hno _) dX3_readRow_41 (fun z => fX3_number_m (xFG F) z (0 : Int32) l3) (Or.inl rfl) (ci := 39) (C := RX3) (T := TX3) rfl q3537 q3534 q3536 qs60 (xroom hRm (Nat.le_of_ble_eq_true rfl) (Nat.le_of_ble_eq_true rfl)) ⟨by decide, by decide⟩ n_X3_number rfl (xcat (Nat.le_of_ble_eq_true rfl)) (fun v41 => ?_)
  refine xs_i [0, 1, 2, 3, 4] F dX3_readRow_44 hnL rfl rfl (xk1 rfl rfl (xk1 rfl rfl (xk1 rfl rfl (xk1 rfl rfl (xk2 rfl rfl xk0))))) ?_
  refine xr_aload_n 1 (r := (some l0)) F dX3_readRow_46 rfl ?_
  refine xr_VI (y := yX3_hasFailed) (As := []) (r := (some l0)) F (hno _) dX3_readRow_47 (fun z => fX3_hasFailed_m (xFG F) z) (Or.inl rfl) (ci := 39) (C := RX3) (T := TX3) rfl q3514 q3511 q3513 qs55 (xroom hRm (Nat.le_of_ble_eq_true rfl) (Nat.le_of_ble_eq_true rfl)) ⟨by decide, by decide⟩ n_X3_hasFailed rfl (xcat (Nat.le_of_ble_eq_true rfl)) (fun v47 => ?_)
  refine xr_if_eq 54 F dX3_readRow_50 rfl ?_ ?_
  · refine xr_aload_n 1 (r := (some l0)) F dX3_readRow_54 rfl ?_
    refine xr_gR (r := (some l0)) (ref := "ReserveLedgerModel") F dX3_readRow_55 (C := RX3) (T := TX3) (N := 25) rfl (by decide) (Or.inl q3395) (Or.inl rfl) (fun v55 => ?_)
    refine xr_iload_n 2 F dX3_readRow_58 rfl ?_
    refine xr_iload_n 3 F dX3_readRow_59 rfl ?_
    refine xr_iload 5 F dX3_readRow_60 rfl ?_
    refine xr_iadd F dX3_readRow_62 ?_
    refine xr_SI (y := yX3_at) (As := [.int l1, .int (l2 + l4)]) F (hno _) dX3_readRow_63 (fX3_at_m (xFG F) l1 (l2 + l4)) (Or.inl rfl) q3565 q144 (Or.inl q3563) q3564 (xroom hRm (Nat.le_of_ble_eq_true rfl) (Nat.le_of_ble_eq_true rfl)) ⟨by decide, by decide⟩ n_X3_at rfl (xcat (Nat.le_of_ble_eq_true rfl)) (fun v63 => ?_)
    refine xr_iload 0 F dX3_readRow_66 rfl ?_
    refine xr_iast (r := v55) F dX3_readRow_68 ?_
    refine xs_inc [5, 1, 2, 3, 4] F dX3_readRow_69 rfl hnL rfl rfl (xk1 rfl rfl (xk1 rfl rfl (xk1 rfl rfl (xk2 rfl rfl xk0)))) (fun x4_69 => ?_)
    refine xr_aload_n 1 (r := (some l0)) F dX3_readRow_72 rfl ?_
    refine xr_VV (y := yX3_blanks) (As := []) (r := (some l0)) F (hno _) dX3_readRow_73 (fun z => fX3_blanks_m (xFG F) z) (Or.inl rfl) (ci := 39) (C := RX3) (T := TX3) rfl q3510 q3507 q3509 qs54 (xroom hRm (Nat.le_of_ble_eq_true rfl) (Nat.le_of_ble_eq_true rfl)) ⟨by decide, by decide⟩ n_X3_blanks rfl (xcat (Nat.le_of_ble_eq_true rfl)) (fun _ => ?_)
    refine xr_aload_n 1 (r := (some l0)) F dX3_readRow_76 rfl ?_
    refine xr_bipush (48 : Int32) F dX3_readRow_77 rfl ?_
    refine xr_bipush (57 : Int32) F dX3_readRow_79 rfl ?_
    refine xr_VI (y := yX3_isAt) (As := [.int (48 : Int32), .int (57 : Int32)]) (r := (some l0)) F (hno _) dX3_readRow_81 (fun z => fX3_isAt_m (xFG F) z (48 : Int32) (57 : Int32)) (Or.inl rfl) (ci := 39) (C := RX3) (T := TX3) rfl q3518 q3515 q3517 qs56 (xroom hRm (Nat.le_of_ble_eq_true rfl) (Nat.le_of_ble_eq_true rfl)) ⟨by decide, by decide⟩ n_X3_isAt rfl (xcat (Nat.le_of_ble_eq_true rfl)) (fun v81 => ?_)
    refine xr_if_ne 3 F dX3_readRow_84 rfl ?_ ?_
    · exact xr_vret F dX3_readRow_87
    · exact xI.sub [1, 2, 3, 4, 0] rfl (hk3 l0 l1 l2 l3 x4_69)
  · exact xr_vret F dX3_readRow_53
theorem fX3_readRow_p29_ok {x : xC} (F : xF x RX3 cX3_readRow none) (hnL : xnL x = 6) (hRm : ∃ dc ds, x.2.2.2.1 = { frames := 4, cells := dc, slots := ds, locals := 77 }) (hno : ∀ pc, xNo x pc) (hmn : xmn x = "readRow" ∧ xmy x yX3_readRow) {k3 : Nat → Int32 → Int32 → Int32 → Int32 → xM (Unit)} (hk3 : ∀ (l0 : Nat) (l1 : Int32) (l2 : Int32) (l3 : Int32) (l4 : Int32), xI x xeV 3 [(0, va_rf (some l0)), (1, .int l1), (2, .int l2), (3, .int l3), (4, .int l4)] [] (k3 l0 l1 l2 l3 l4)) (l0 : Nat) (l1 : Int32) (l2 : Int32) (l3 : Int32) (l4 : Int32) (s0 : Nat) : xI x xeV 29 [(0, va_rf (some l0)), (1, .int l1), (2, .int l2), (3, .int l3), (4, .int l4)] [va_rf (some s0)] (fX3_readRow_p29 k3 l0 l1 l2 l3 l4 s0) := by
  unfold fX3_readRow_p29
  refine xr_iconst (1 : Int32) F dX3_readRow_29 rfl ?_
  refine xr_goto 34 F dX3_readRow_30 rfl ?_
  exact xI.sub [0, 1, 2, 3, 4] rfl (fX3_readRow_p34_ok F hnL hRm hno hmn hk3 l0 l1 l2 l3 l4 (1 : Int32) s0)
theorem fX3_readRow_p3_ok {x : xC} (F : xF x RX3 cX3_readRow none) (hnL : xnL x = 6) (hRm : ∃ dc ds, x.2.2.2.1 = { frames := 4, cells := dc, slots := ds, locals := 77 }) (hno : ∀ pc, xNo x pc) (hmn : xmn x = "readRow" ∧ xmy x yX3_readRow) : ∀ (n : Nat) (l0 : Nat) (l1 : Int32) (l2 : Int32) (l3 : Int32) (l4 : Int32), xI x xeV 3 [(0, va_rf (some l0)), (1, .int l1), (2, .int l2), (3, .int l3), (4, .int l4)] [] (fX3_readRow_p3 n l0 l1 l2 l3 l4) := by
  intro n
  induction n with
  | zero => intro l0 l1 l2 l3 l4; exact xI.stuck
  | succ n ih =>
    intro l0 l1 l2 l3 l4
    unfold fX3_readRow_p3
    refine xr_aload_n 0 (r := (some l0)) F dX3_readRow_3 rfl ?_
    refine xr_VV (y := yX3_blanks) (As := []) (r := (some l0)) F (hno _) dX3_readRow_4 (fun z => fX3_blanks_m (xFG F) z) (Or.inl rfl) (ci := 39) (C := RX3) (T := TX3) rfl q3510 q3507 q3509 qs54 (xroom hRm (Nat.le_of_ble_eq_true rfl) (Nat.le_of_ble_eq_true rfl)) ⟨by decide, by decide⟩ n_X3_blanks rfl (xcat (Nat.le_of_ble_eq_true rfl)) (fun _ => ?_)
    refine xr_aload_n 0 (r := (some l0)) F dX3_readRow_7 rfl ?_
    refine xr_aload_n 0 (r := (some l0)) F dX3_readRow_8 rfl ?_
    refine xr_bipush (48 : Int32) F dX3_readRow_9 rfl ?_
    refine xr_bipush (57 : Int32) F dX3_readRow_11 rfl ?_
    refine xr_VI (y := yX3_isAt) (As := [.int (48 : Int32), .int (57 : Int32)]) (r := (some l0)) F (hno _) dX3_readRow_13 (fun z => fX3_isAt_m (xFG F) z (48 : Int32) (57 : Int32)) (Or.inl rfl) (ci := 39) (C := RX3) (T := TX3) rfl q3518 q3515 q3517 qs56 (xroom hRm (Nat.le_of_ble_eq_true rfl) (Nat.le_of_ble_eq_true rfl)) ⟨by decide, by decide⟩ n_X3_isAt rfl (xcat (Nat.le_of_ble_eq_true rfl)) (fun v13 => ?_)
    refine xr_if_eq 29 F dX3_readRow_16 rfl ?_ ?_
    · exact xI.sub [0, 1, 2, 3, 4] rfl (fX3_readRow_p29_ok F hnL hRm hno hmn ih l0 l1 l2 l3 l4 l0)
    · refine xr_iload 4 F dX3_readRow_19 rfl ?_
      refine xr_aload_n 0 (r := (some l0)) F dX3_readRow_21 rfl ?_
      refine xr_iload_n 1 F dX3_readRow_22 rfl ?_
      refine xr_VI (y := yX3_oldest) (As := [.int l1]) (r := (some l0)) F (hno _) dX3_readRow_23 (fun z => fX3_oldest_m (xFG F) z l1) (Or.inl rfl) (ci := 39) (C := RX3) (T := TX3) rfl q3583 q3580 q3582 qs68 (xroom hRm (Nat.le_of_ble_eq_true rfl) (Nat.le_of_ble_eq_true rfl)) ⟨by decide, by decide⟩ n_X3_oldest rfl (xcat (Nat.le_of_ble_eq_true rfl)) (fun v23 => ?_)
      refine xr_icmp_gt 33 F dX3_readRow_26 rfl ?_ ?_
      · refine xr_iconst (0 : Int32) F dX3_readRow_33 rfl ?_
        exact xI.sub [0, 1, 2, 3, 4] rfl (fX3_readRow_p34_ok F hnL hRm hno hmn ih l0 l1 l2 l3 l4 (0 : Int32) l0)
      · exact xI.sub [0, 1, 2, 3, 4] rfl (fX3_readRow_p29_ok F hnL hRm hno hmn ih l0 l1 l2 l3 l4 l0)
theorem fX3_readRow_m {l : Launch} {D : xD} {s0 : State} {b0 : Nat} {Γ : Nat → Option Nat} (G : xG l D s0 b0 Γ) (a0 : Nat) (p0 : Int32) (p1 : Int32) (p2 : Int32) : xMeth l D s0 Γ yX3_readRow (Cond.code yX3_readRow cX3_readRow 6 none) (4) (77) [.ref a0, .int p0, .int p1, .int p2] xeV (fX3_readRow a0 p0 p1 p2) := by
  refine xMeth.of (lv0 := [(0, va_rf (some a0)), (1, .int p0), (2, .int p1), (3, .int p2)]) G (by decide +kernel) (Or.inl rfl) (Nat.le_of_ble_eq_true rfl) rfl (fun x F hnL hRm hmn ht e1 e2 e3 e4 => ?_)
  have hno : ∀ pc, xNo x pc := fun pc z hz => by rw [ht.1 rfl] at hz; cases hz
  unfold fX3_readRow
  refine xr_iconst (0 : Int32) F dX3_readRow_0 rfl ?_
  refine xr_letI (fun x4_1 => ?_)
  refine xs_i [0, 1, 2, 3] F dX3_readRow_1 hnL rfl rfl (xk1 rfl rfl (xk1 rfl rfl (xk1 rfl rfl (xk2 rfl rfl xk0)))) ?_
  exact xI.sub [1, 2, 3, 4, 0] rfl (fX3_readRow_p3_ok F hnL hRm hno hmn xFU a0 p0 p1 p2 x4_1)
theorem fX3_readOf_p182_ok {x : xC} (F : xF x RX3 cX3_readOf none) (hnL : xnL x = 9) (hRm : ∃ dc ds, x.2.2.2.1 = { frames := 363, cells := dc, slots := ds, locals := 7335 }) (hno : ∀ pc, xNo x pc) (hmn : xmn x = "readOf" ∧ xmy x yX3_readOf) (l0 : Nat) (l1 : Int32) (l3 : Int32) (l4 : Int32) (l5 : Int32) (l6 : Int32) (l7 : Int32) (s0 : Int32) (s1 : Nat) : xI x xeV 182 [(0, va_rf (some l0)), (1, .int l1), (3, .int l3), (4, .int l4), (5, .int l5), (6, .int l6), (7, .int l7)] [.int s0, va_rf (some s1)] (fX3_readOf_p182 l0 l1 l3 l4 l5 l6 l7 s0 s1) := by
  unfold fX3_readOf_p182
  refine xr_iconst (1 : Int32) F dX3_readOf_182 rfl ?_
  refine xr_VV (y := yX3_must) (As := [.int s0, .int (1 : Int32)]) (r := (some s1)) F (hno _) dX3_readOf_183 (fun z => fX3_must_m (xFG F) z s0 (1 : Int32)) (Or.inl rfl) (ci := 39) (C := RX3) (T := TX3) rfl q3541 q3538 q3540 qs61 (xroom hRm (Nat.le_of_ble_eq_true rfl) (Nat.le_of_ble_eq_true rfl)) ⟨by decide, by decide⟩ n_X3_must rfl (xcat (Nat.le_of_ble_eq_true rfl)) (fun _ => ?_)
  refine xr_aload_n 0 (r := (some l0)) F dX3_readOf_186 rfl ?_
  refine xr_VI (y := yX3_hasFailed) (As := []) (r := (some l0)) F (hno _) dX3_readOf_187 (fun z => fX3_hasFailed_m (xFG F) z) (Or.inl rfl) (ci := 39) (C := RX3) (T := TX3) rfl q3514 q3511 q3513 qs55 (xroom hRm (Nat.le_of_ble_eq_true rfl) (Nat.le_of_ble_eq_true rfl)) ⟨by decide, by decide⟩ n_X3_hasFailed rfl (xcat (Nat.le_of_ble_eq_true rfl)) (fun v187 => ?_)
  refine xr_if_eq 194 F dX3_readOf_190 rfl ?_ ?_
  · refine xr_iload_n 2 F dX3_readOf_194 rfl ?_
    refine xr_if_eq 211 F dX3_readOf_195 rfl ?_ ?_
    · refine xr_iload 3 F dX3_readOf_211 rfl ?_
      refine xr_if_eq 229 F dX3_readOf_213 rfl ?_ ?_
      · refine xr_iload 4 F dX3_readOf_229 rfl ?_
        refine xr_if_eq 246 F dX3_readOf_231 rfl ?_ ?_
        · refine xr_iload 5 F dX3_readOf_246 rfl ?_
          refine xr_if_eq 274 F dX3_readOf_248 rfl ?_ ?_
          · refine xr_iload 6 F dX3_readOf_274 rfl ?_
            refine xr_if_eq 299 F dX3_readOf_276 rfl ?_ ?_
            · refine xr_aload_n 0 (r := (some l0)) F dX3_readOf_299 rfl ?_
              refine xr_iload_n 1 F dX3_readOf_300 rfl ?_
              refine xr_VV (y := yX3_readAllow) (As := [.int l1]) (r := (some l0)) F (hno _) dX3_readOf_301 (fun z => fX3_readAllow_m (xFG F) z l1) (Or.inl rfl) (ci := 39) (C := RX3) (T := TX3) rfl q3588 q3585 q3587 qs69 (xroom hRm (Nat.le_of_ble_eq_true rfl) (Nat.le_of_ble_eq_true rfl)) ⟨by decide, by decide⟩ n_X3_readAllow rfl (xcat (Nat.le_of_ble_eq_true rfl)) (fun _ => ?_)
              exact xr_vret F dX3_readOf_304
            · refine xr_aload_n 0 (r := (some l0)) F dX3_readOf_279 rfl ?_
              refine xr_gR (r := (some l0)) (ref := "ReserveLedgerModel") F dX3_readOf_280 (C := RX3) (T := TX3) (N := 25) rfl (by decide) (Or.inl q3395) (Or.inl rfl) (fun v280 => ?_)
              refine xr_iload_n 1 F dX3_readOf_283 rfl ?_
              refine xr_iconst (3 : Int32) F dX3_readOf_284 rfl ?_
              refine xr_SI (y := yX3_at) (As := [.int l1, .int (3 : Int32)]) F (hno _) dX3_readOf_285 (fX3_at_m (xFG F) l1 (3 : Int32)) (Or.inl rfl) q3565 q144 (Or.inl q3563) q3564 (xroom hRm (Nat.le_of_ble_eq_true rfl) (Nat.le_of_ble_eq_true rfl)) ⟨by decide, by decide⟩ n_X3_at rfl (xcat (Nat.le_of_ble_eq_true rfl)) (fun v285 => ?_)
              refine xr_aload_n 0 (r := (some l0)) F dX3_readOf_288 rfl ?_
              refine xr_iconst (1 : Int32) F dX3_readOf_289 rfl ?_
              refine xr_ldc F dX3_readOf_290 q3584 ?_
              refine xr_VI (y := yX3_number) (As := [.int (1 : Int32), .int (99999 : Int32)]) (r := (some l0)) F (hno _) dX3_readOf_292 (fun z => fX3_number_m (xFG F) z (1 : Int32) (99999 : Int32)) (Or.inl rfl) (ci := 39) (C := RX3) (T := TX3) rfl q3537 q3534 q3536 qs60 (xroom hRm (Nat.le_of_ble_eq_true rfl) (Nat.le_of_ble_eq_true rfl)) ⟨by decide, by decide⟩ n_X3_number rfl (xcat (Nat.le_of_ble_eq_true rfl)) (fun v292 => ?_)
              refine xr_iast (r := v280) F dX3_readOf_295 ?_
              refine xr_goto 304 F dX3_readOf_296 rfl ?_
              exact xr_vret F dX3_readOf_304
          · refine xr_aload_n 0 (r := (some l0)) F dX3_readOf_251 rfl ?_
            refine xr_gR (r := (some l0)) (ref := "ReserveLedgerModel") F dX3_readOf_252 (C := RX3) (T := TX3) (N := 25) rfl (by decide) (Or.inl q3395) (Or.inl rfl) (fun v252 => ?_)
            refine xr_iload_n 1 F dX3_readOf_255 rfl ?_
            refine xr_iconst (2 : Int32) F dX3_readOf_256 rfl ?_
            refine xr_SI (y := yX3_at) (As := [.int l1, .int (2 : Int32)]) F (hno _) dX3_readOf_257 (fX3_at_m (xFG F) l1 (2 : Int32)) (Or.inl rfl) q3565 q144 (Or.inl q3563) q3564 (xroom hRm (Nat.le_of_ble_eq_true rfl) (Nat.le_of_ble_eq_true rfl)) ⟨by decide, by decide⟩ n_X3_at rfl (xcat (Nat.le_of_ble_eq_true rfl)) (fun v257 => ?_)
            refine xr_aload_n 0 (r := (some l0)) F dX3_readOf_260 rfl ?_
            refine xr_iconst (0 : Int32) F dX3_readOf_261 rfl ?_
            refine xr_aload_n 0 (r := (some l0)) F dX3_readOf_262 rfl ?_
            refine xr_iload_n 1 F dX3_readOf_263 rfl ?_
            refine xr_VI (y := yX3_oldest) (As := [.int l1]) (r := (some l0)) F (hno _) dX3_readOf_264 (fun z => fX3_oldest_m (xFG F) z l1) (Or.inl rfl) (ci := 39) (C := RX3) (T := TX3) rfl q3583 q3580 q3582 qs68 (xroom hRm (Nat.le_of_ble_eq_true rfl) (Nat.le_of_ble_eq_true rfl)) ⟨by decide, by decide⟩ n_X3_oldest rfl (xcat (Nat.le_of_ble_eq_true rfl)) (fun v264 => ?_)
            refine xr_VI (y := yX3_number) (As := [.int (0 : Int32), .int v264]) (r := (some l0)) F (hno _) dX3_readOf_267 (fun z => fX3_number_m (xFG F) z (0 : Int32) v264) (Or.inl rfl) (ci := 39) (C := RX3) (T := TX3) rfl q3537 q3534 q3536 qs60 (xroom hRm (Nat.le_of_ble_eq_true rfl) (Nat.le_of_ble_eq_true rfl)) ⟨by decide, by decide⟩ n_X3_number rfl (xcat (Nat.le_of_ble_eq_true rfl)) (fun v267 => ?_)
            refine xr_iast (r := v252) F dX3_readOf_270 ?_
            refine xr_goto 304 F dX3_readOf_271 rfl ?_
            exact xr_vret F dX3_readOf_304
        · refine xr_aload_n 0 (r := (some l0)) F dX3_readOf_234 rfl ?_
          refine xr_iload_n 1 F dX3_readOf_235 rfl ?_
          refine xr_bipush (39 : Int32) F dX3_readOf_236 rfl ?_
          refine xr_ldc F dX3_readOf_238 q3584 ?_
          refine xr_VV (y := yX3_readRow) (As := [.int l1, .int (39 : Int32), .int (99999 : Int32)]) (r := (some l0)) F (hno _) dX3_readOf_240 (fun z => fX3_readRow_m (xFG F) z l1 (39 : Int32) (99999 : Int32)) (Or.inl rfl) (ci := 39) (C := RX3) (T := TX3) rfl q3579 q3576 q3578 qs67 (xroom hRm (Nat.le_of_ble_eq_true rfl) (Nat.le_of_ble_eq_true rfl)) ⟨by decide, by decide⟩ n_X3_readRow rfl (xcat (Nat.le_of_ble_eq_true rfl)) (fun _ => ?_)
          refine xr_goto 304 F dX3_readOf_243 rfl ?_
          exact xr_vret F dX3_readOf_304
      · refine xr_aload_n 0 (r := (some l0)) F dX3_readOf_216 rfl ?_
        refine xr_iload_n 1 F dX3_readOf_217 rfl ?_
        refine xr_bipush (26 : Int32) F dX3_readOf_218 rfl ?_
        refine xr_sipush (9999 : Int32) F dX3_readOf_220 rfl ?_
        refine xr_VV (y := yX3_readRow) (As := [.int l1, .int (26 : Int32), .int (9999 : Int32)]) (r := (some l0)) F (hno _) dX3_readOf_223 (fun z => fX3_readRow_m (xFG F) z l1 (26 : Int32) (9999 : Int32)) (Or.inl rfl) (ci := 39) (C := RX3) (T := TX3) rfl q3579 q3576 q3578 qs67 (xroom hRm (Nat.le_of_ble_eq_true rfl) (Nat.le_of_ble_eq_true rfl)) ⟨by decide, by decide⟩ n_X3_readRow rfl (xcat (Nat.le_of_ble_eq_true rfl)) (fun _ => ?_)
        refine xr_goto 304 F dX3_readOf_226 rfl ?_
        exact xr_vret F dX3_readOf_304
    · refine xr_aload_n 0 (r := (some l0)) F dX3_readOf_198 rfl ?_
      refine xr_iload_n 1 F dX3_readOf_199 rfl ?_
      refine xr_bipush (13 : Int32) F dX3_readOf_200 rfl ?_
      refine xr_sipush (1000 : Int32) F dX3_readOf_202 rfl ?_
      refine xr_VV (y := yX3_readRow) (As := [.int l1, .int (13 : Int32), .int (1000 : Int32)]) (r := (some l0)) F (hno _) dX3_readOf_205 (fun z => fX3_readRow_m (xFG F) z l1 (13 : Int32) (1000 : Int32)) (Or.inl rfl) (ci := 39) (C := RX3) (T := TX3) rfl q3579 q3576 q3578 qs67 (xroom hRm (Nat.le_of_ble_eq_true rfl) (Nat.le_of_ble_eq_true rfl)) ⟨by decide, by decide⟩ n_X3_readRow rfl (xcat (Nat.le_of_ble_eq_true rfl)) (fun _ => ?_)
      refine xr_goto 304 F dX3_readOf_208 rfl ?_
      exact xr_vret F dX3_readOf_304
  · exact xr_vret F dX3_readOf_193
theorem fX3_readOf_p181_ok {x : xC} (F : xF x RX3 cX3_readOf none) (hnL : xnL x = 9) (hRm : ∃ dc ds, x.2.2.2.1 = { frames := 363, cells := dc, slots := ds, locals := 7335 }) (hno : ∀ pc, xNo x pc) (hmn : xmn x = "readOf" ∧ xmy x yX3_readOf) (l0 : Nat) (l1 : Int32) (l3 : Int32) (l4 : Int32) (l5 : Int32) (l6 : Int32) (l7 : Int32) (s0 : Nat) : xI x xeV 181 [(0, va_rf (some l0)), (1, .int l1), (3, .int l3), (4, .int l4), (5, .int l5), (6, .int l6), (7, .int l7)] [va_rf (some s0)] (fX3_readOf_p181 l0 l1 l3 l4 l5 l6 l7 s0) := by
  unfold fX3_readOf_p181
  refine xr_iconst (0 : Int32) F dX3_readOf_181 rfl ?_
  exact xI.sub [0, 1, 2, 3, 4, 5, 6] rfl (fX3_readOf_p182_ok F hnL hRm hno hmn l0 l1 l3 l4 l5 l6 l7 (0 : Int32) s0)
theorem fX3_readOf_p160_ok {x : xC} (F : xF x RX3 cX3_readOf none) (hnL : xnL x = 9) (hRm : ∃ dc ds, x.2.2.2.1 = { frames := 363, cells := dc, slots := ds, locals := 7335 }) (hno : ∀ pc, xNo x pc) (hmn : xmn x = "readOf" ∧ xmy x yX3_readOf) (l0 : Nat) (l1 : Int32) (l2 : Int32) (l3 : Int32) (l4 : Int32) (l5 : Int32) (l6 : Int32) (l7 : Int32) (s0 : Int32) : xI x xeV 160 [(0, va_rf (some l0)), (1, .int l1), (2, .int l2), (3, .int l3), (4, .int l4), (5, .int l5), (6, .int l6), (7, .int l7)] [.int s0] (fX3_readOf_p160 l0 l1 l2 l3 l4 l5 l6 l7 s0) := by
  unfold fX3_readOf_p160
  refine xs_i [0, 1, 2, 3, 4, 5, 6, 7] F dX3_readOf_160 hnL rfl rfl (xk1 rfl rfl (xk1 rfl rfl (xk1 rfl rfl (xk1 rfl rfl (xk1 rfl rfl (xk1 rfl rfl (xk1 rfl rfl (xk2 rfl rfl xk0)))))))) ?_
  refine xr_aload_n 1 (r := (some l0)) F dX3_readOf_162 rfl ?_
  refine xr_iload_n 3 F dX3_readOf_163 rfl ?_
  refine xr_put (r := (some l0)) (ref := "ReserveLedgerModel") F dX3_readOf_164 xk_39 (by decide) (Or.inl q3408) (Or.inl rfl) (Or.inl rfl) ⟨rfl, rfl⟩ ?_
  refine xr_aload_n 1 (r := (some l0)) F dX3_readOf_167 rfl ?_
  refine xr_iload 0 F dX3_readOf_168 rfl ?_
  refine xr_if_eq 181 F dX3_readOf_170 rfl ?_ ?_
  · exact xI.sub [1, 2, 4, 5, 6, 7, 8] rfl (fX3_readOf_p181_ok F hnL hRm hno hmn l0 l1 l3 l4 l5 l6 l7 l0)
  · refine xr_iload_n 2 F dX3_readOf_173 rfl ?_
    refine xr_if_lt 181 F dX3_readOf_174 rfl ?_ ?_
    · exact xI.sub [1, 2, 4, 5, 6, 7, 8] rfl (fX3_readOf_p181_ok F hnL hRm hno hmn l0 l1 l3 l4 l5 l6 l7 l0)
    · refine xr_iconst (1 : Int32) F dX3_readOf_177 rfl ?_
      refine xr_goto 182 F dX3_readOf_178 rfl ?_
      exact xI.sub [1, 2, 4, 5, 6, 7, 8] rfl (fX3_readOf_p182_ok F hnL hRm hno hmn l0 l1 l3 l4 l5 l6 l7 (1 : Int32) l0)
theorem fX3_readOf_p155_ok {x : xC} (F : xF x RX3 cX3_readOf none) (hnL : xnL x = 9) (hRm : ∃ dc ds, x.2.2.2.1 = { frames := 363, cells := dc, slots := ds, locals := 7335 }) (hno : ∀ pc, xNo x pc) (hmn : xmn x = "readOf" ∧ xmy x yX3_readOf) (l0 : Nat) (l1 : Int32) (l2 : Int32) (l3 : Int32) (l4 : Int32) (l5 : Int32) (l6 : Int32) (l7 : Int32) : xI x xeV 155 [(0, va_rf (some l0)), (1, .int l1), (2, .int l2), (3, .int l3), (4, .int l4), (5, .int l5), (6, .int l6), (7, .int l7)] [] (fX3_readOf_p155 l0 l1 l2 l3 l4 l5 l6 l7) := by
  unfold fX3_readOf_p155
  refine xr_iconst (1 : Int32) F dX3_readOf_155 rfl ?_
  refine xr_goto 160 F dX3_readOf_156 rfl ?_
  exact xI.sub [0, 1, 2, 3, 4, 5, 6, 7] rfl (fX3_readOf_p160_ok F hnL hRm hno hmn l0 l1 l2 l3 l4 l5 l6 l7 (1 : Int32))
theorem fX3_readOf_p120_ok {x : xC} (F : xF x RX3 cX3_readOf none) (hnL : xnL x = 9) (hRm : ∃ dc ds, x.2.2.2.1 = { frames := 363, cells := dc, slots := ds, locals := 7335 }) (hno : ∀ pc, xNo x pc) (hmn : xmn x = "readOf" ∧ xmy x yX3_readOf) (l0 : Nat) (l1 : Int32) (l2 : Int32) (l3 : Int32) (l4 : Int32) (l5 : Int32) (l6 : Int32) (s0 : Int32) : xI x xeV 120 [(0, va_rf (some l0)), (1, .int l1), (2, .int l2), (3, .int l3), (4, .int l4), (5, .int l5), (6, .int l6)] [.int s0] (fX3_readOf_p120 l0 l1 l2 l3 l4 l5 l6 s0) := by
  unfold fX3_readOf_p120
  refine xs_i [0, 1, 2, 3, 4, 5, 6] F dX3_readOf_120 hnL rfl rfl (xk1 rfl rfl (xk1 rfl rfl (xk1 rfl rfl (xk1 rfl rfl (xk1 rfl rfl (xk1 rfl rfl (xk2 rfl rfl xk0))))))) ?_
  refine xr_iload_n 4 F dX3_readOf_122 rfl ?_
  refine xr_if_ne 155 F dX3_readOf_123 rfl ?_ ?_
  · refine xr_iload 5 F dX3_readOf_126 rfl ?_
    refine xr_if_ne 155 F dX3_readOf_128 rfl ?_ ?_
    · refine xr_iload 6 F dX3_readOf_131 rfl ?_
      refine xr_if_ne 155 F dX3_readOf_133 rfl ?_ ?_
      · refine xr_iload 7 F dX3_readOf_136 rfl ?_
        refine xr_if_ne 155 F dX3_readOf_138 rfl ?_ ?_
        · refine xr_iload 0 F dX3_readOf_141 rfl ?_
          refine xr_if_ne 155 F dX3_readOf_143 rfl ?_ ?_
          · refine xr_aload_n 1 (r := (some l0)) F dX3_readOf_146 rfl ?_
            refine xr_str (k := 24) F dX3_readOf_147 rfl (fun v147 => ?_)
            refine xr_VI (y := yX3_takes) (As := [va_rf v147]) (r := (some l0)) F (hno _) dX3_readOf_149 (fun z => fX3_takes_m (xFG F) z v147) (Or.inl rfl) (ci := 39) (C := RX3) (T := TX3) rfl q3527 q3524 q3526 qs58 (xroom hRm (Nat.le_of_ble_eq_true rfl) (Nat.le_of_ble_eq_true rfl)) ⟨by decide, by decide⟩ n_X3_takes rfl (xcat (Nat.le_of_ble_eq_true rfl)) (fun v149 => ?_)
            refine xr_if_eq 159 F dX3_readOf_152 rfl ?_ ?_
            · refine xr_iconst (0 : Int32) F dX3_readOf_159 rfl ?_
              exact xI.sub [1, 2, 3, 4, 5, 6, 7, 0] rfl (fX3_readOf_p160_ok F hnL hRm hno hmn l0 l1 l2 l3 l4 l5 l6 s0 (0 : Int32))
            · exact xI.sub [1, 2, 3, 4, 5, 6, 7, 0] rfl (fX3_readOf_p155_ok F hnL hRm hno hmn l0 l1 l2 l3 l4 l5 l6 s0)
          · exact xI.sub [1, 2, 3, 4, 5, 6, 7, 0] rfl (fX3_readOf_p155_ok F hnL hRm hno hmn l0 l1 l2 l3 l4 l5 l6 s0)
        · exact xI.sub [1, 2, 3, 4, 5, 6, 7, 0] rfl (fX3_readOf_p155_ok F hnL hRm hno hmn l0 l1 l2 l3 l4 l5 l6 s0)
      · exact xI.sub [1, 2, 3, 4, 5, 6, 7, 0] rfl (fX3_readOf_p155_ok F hnL hRm hno hmn l0 l1 l2 l3 l4 l5 l6 s0)
    · exact xI.sub [1, 2, 3, 4, 5, 6, 7, 0] rfl (fX3_readOf_p155_ok F hnL hRm hno hmn l0 l1 l2 l3 l4 l5 l6 s0)
  · exact xI.sub [1, 2, 3, 4, 5, 6, 7, 0] rfl (fX3_readOf_p155_ok F hnL hRm hno hmn l0 l1 l2 l3 l4 l5 l6 s0)
theorem fX3_readOf_p119_ok {x : xC} (F : xF x RX3 cX3_readOf none) (hnL : xnL x = 9) (hRm : ∃ dc ds, x.2.2.2.1 = { frames := 363, cells := dc, slots := ds, locals := 7335 }) (hno : ∀ pc, xNo x pc) (hmn : xmn x = "readOf" ∧ xmy x yX3_readOf) (l0 : Nat) (l1 : Int32) (l2 : Int32) (l3 : Int32) (l4 : Int32) (l5 : Int32) (l6 : Int32) : xI x xeV 119 [(0, va_rf (some l0)), (1, .int l1), (2, .int l2), (3, .int l3), (4, .int l4), (5, .int l5), (6, .int l6)] [] (fX3_readOf_p119 l0 l1 l2 l3 l4 l5 l6) := by
  unfold fX3_readOf_p119
  refine xr_iconst (0 : Int32) F dX3_readOf_119 rfl ?_
  exact xI.sub [0, 1, 2, 3, 4, 5, 6] rfl (fX3_readOf_p120_ok F hnL hRm hno hmn l0 l1 l2 l3 l4 l5 l6 (0 : Int32))
theorem fX3_readOf_p85_ok {x : xC} (F : xF x RX3 cX3_readOf none) (hnL : xnL x = 9) (hRm : ∃ dc ds, x.2.2.2.1 = { frames := 363, cells := dc, slots := ds, locals := 7335 }) (hno : ∀ pc, xNo x pc) (hmn : xmn x = "readOf" ∧ xmy x yX3_readOf) (l0 : Nat) (l1 : Int32) (l2 : Int32) (l3 : Int32) (l4 : Int32) (l5 : Int32) (s0 : Int32) : xI x xeV 85 [(0, va_rf (some l0)), (1, .int l1), (2, .int l2), (3, .int l3), (4, .int l4), (5, .int l5)] [.int s0] (fX3_readOf_p85 l0 l1 l2 l3 l4 l5 s0) := by
  unfold fX3_readOf_p85
  refine xs_i [0, 1, 2, 3, 4, 5] F dX3_readOf_85 hnL rfl rfl (xk1 rfl rfl (xk1 rfl rfl (xk1 rfl rfl (xk1 rfl rfl (xk1 rfl rfl (xk2 rfl rfl xk0)))))) ?_
  refine xr_iload_n 4 F dX3_readOf_87 rfl ?_
  refine xr_if_ne 119 F dX3_readOf_88 rfl ?_ ?_
  · refine xr_iload 5 F dX3_readOf_91 rfl ?_
    refine xr_if_ne 119 F dX3_readOf_93 rfl ?_ ?_
    · refine xr_iload 6 F dX3_readOf_96 rfl ?_
      refine xr_if_ne 119 F dX3_readOf_98 rfl ?_ ?_
      · refine xr_iload 0 F dX3_readOf_101 rfl ?_
        refine xr_if_ne 119 F dX3_readOf_103 rfl ?_ ?_
        · refine xr_aload_n 1 (r := (some l0)) F dX3_readOf_106 rfl ?_
          refine xr_str (k := 23) F dX3_readOf_107 rfl (fun v107 => ?_)
          refine xr_VI (y := yX3_takes) (As := [va_rf v107]) (r := (some l0)) F (hno _) dX3_readOf_109 (fun z => fX3_takes_m (xFG F) z v107) (Or.inl rfl) (ci := 39) (C := RX3) (T := TX3) rfl q3527 q3524 q3526 qs58 (xroom hRm (Nat.le_of_ble_eq_true rfl) (Nat.le_of_ble_eq_true rfl)) ⟨by decide, by decide⟩ n_X3_takes rfl (xcat (Nat.le_of_ble_eq_true rfl)) (fun v109 => ?_)
          refine xr_if_eq 119 F dX3_readOf_112 rfl ?_ ?_
          · exact xI.sub [1, 2, 3, 4, 5, 6, 0] rfl (fX3_readOf_p119_ok F hnL hRm hno hmn l0 l1 l2 l3 l4 l5 s0)
          · refine xr_iconst (1 : Int32) F dX3_readOf_115 rfl ?_
            refine xr_goto 120 F dX3_readOf_116 rfl ?_
            exact xI.sub [1, 2, 3, 4, 5, 6, 0] rfl (fX3_readOf_p120_ok F hnL hRm hno hmn l0 l1 l2 l3 l4 l5 s0 (1 : Int32))
        · exact xI.sub [1, 2, 3, 4, 5, 6, 0] rfl (fX3_readOf_p119_ok F hnL hRm hno hmn l0 l1 l2 l3 l4 l5 s0)
      · exact xI.sub [1, 2, 3, 4, 5, 6, 0] rfl (fX3_readOf_p119_ok F hnL hRm hno hmn l0 l1 l2 l3 l4 l5 s0)
    · exact xI.sub [1, 2, 3, 4, 5, 6, 0] rfl (fX3_readOf_p119_ok F hnL hRm hno hmn l0 l1 l2 l3 l4 l5 s0)
  · exact xI.sub [1, 2, 3, 4, 5, 6, 0] rfl (fX3_readOf_p119_ok F hnL hRm hno hmn l0 l1 l2 l3 l4 l5 s0)
theorem fX3_readOf_p84_ok {x : xC} (F : xF x RX3 cX3_readOf none) (hnL : xnL x = 9) (hRm : ∃ dc ds, x.2.2.2.1 = { frames := 363, cells := dc, slots := ds, locals := 7335 }) (hno : ∀ pc, xNo x pc) (hmn : xmn x = "readOf" ∧ xmy x yX3_readOf) (l0 : Nat) (l1 : Int32) (l2 : Int32) (l3 : Int32) (l4 : Int32) (l5 : Int32) : xI x xeV 84 [(0, va_rf (some l0)), (1, .int l1), (2, .int l2), (3, .int l3), (4, .int l4), (5, .int l5)] [] (fX3_readOf_p84 l0 l1 l2 l3 l4 l5) := by
  unfold fX3_readOf_p84
  refine xr_iconst (0 : Int32) F dX3_readOf_84 rfl ?_
  exact xI.sub [0, 1, 2, 3, 4, 5] rfl (fX3_readOf_p85_ok F hnL hRm hno hmn l0 l1 l2 l3 l4 l5 (0 : Int32))
theorem fX3_readOf_p55_ok {x : xC} (F : xF x RX3 cX3_readOf none) (hnL : xnL x = 9) (hRm : ∃ dc ds, x.2.2.2.1 = { frames := 363, cells := dc, slots := ds, locals := 7335 }) (hno : ∀ pc, xNo x pc) (hmn : xmn x = "readOf" ∧ xmy x yX3_readOf) (l0 : Nat) (l1 : Int32) (l2 : Int32) (l3 : Int32) (l4 : Int32) (s0 : Int32) : xI x xeV 55 [(0, va_rf (some l0)), (1, .int l1), (2, .int l2), (3, .int l3), (4, .int l4)] [.int s0] (fX3_readOf_p55 l0 l1 l2 l3 l4 s0) := by
  unfold fX3_readOf_p55
  refine xs_i [0, 1, 2, 3, 4] F dX3_readOf_55 hnL rfl rfl (xk1 rfl rfl (xk1 rfl rfl (xk1 rfl rfl (xk1 rfl rfl (xk2 rfl rfl xk0))))) ?_
  refine xr_iload_n 4 F dX3_readOf_57 rfl ?_
  refine xr_if_ne 84 F dX3_readOf_58 rfl ?_ ?_
  · refine xr_iload 5 F dX3_readOf_61 rfl ?_
    refine xr_if_ne 84 F dX3_readOf_63 rfl ?_ ?_
    · refine xr_iload 0 F dX3_readOf_66 rfl ?_
      refine xr_if_ne 84 F dX3_readOf_68 rfl ?_ ?_
      · refine xr_aload_n 1 (r := (some l0)) F dX3_readOf_71 rfl ?_
        refine xr_str (k := 22) F dX3_readOf_72 rfl (fun v72 => ?_)
        refine xr_VI (y := yX3_takes) (As := [va_rf v72]) (r := (some l0)) F (hno _) dX3_readOf_74 (fun z => fX3_takes_m (xFG F) z v72) (Or.inl rfl) (ci := 39) (C := RX3) (T := TX3) rfl q3527 q3524 q3526 qs58 (xroom hRm (Nat.le_of_ble_eq_true rfl) (Nat.le_of_ble_eq_true rfl)) ⟨by decide, by decide⟩ n_X3_takes rfl (xcat (Nat.le_of_ble_eq_true rfl)) (fun v74 => ?_)
        refine xr_if_eq 84 F dX3_readOf_77 rfl ?_ ?_
        · exact xI.sub [1, 2, 3, 4, 5, 0] rfl (fX3_readOf_p84_ok F hnL hRm hno hmn l0 l1 l2 l3 l4 s0)
        · refine xr_iconst (1 : Int32) F dX3_readOf_80 rfl ?_
          refine xr_goto 85 F dX3_readOf_81 rfl ?_
          exact xI.sub [1, 2, 3, 4, 5, 0] rfl (fX3_readOf_p85_ok F hnL hRm hno hmn l0 l1 l2 l3 l4 s0 (1 : Int32))
      · exact xI.sub [1, 2, 3, 4, 5, 0] rfl (fX3_readOf_p84_ok F hnL hRm hno hmn l0 l1 l2 l3 l4 s0)
    · exact xI.sub [1, 2, 3, 4, 5, 0] rfl (fX3_readOf_p84_ok F hnL hRm hno hmn l0 l1 l2 l3 l4 s0)
  · exact xI.sub [1, 2, 3, 4, 5, 0] rfl (fX3_readOf_p84_ok F hnL hRm hno hmn l0 l1 l2 l3 l4 s0)
theorem fX3_readOf_p54_ok {x : xC} (F : xF x RX3 cX3_readOf none) (hnL : xnL x = 9) (hRm : ∃ dc ds, x.2.2.2.1 = { frames := 363, cells := dc, slots := ds, locals := 7335 }) (hno : ∀ pc, xNo x pc) (hmn : xmn x = "readOf" ∧ xmy x yX3_readOf) (l0 : Nat) (l1 : Int32) (l2 : Int32) (l3 : Int32) (l4 : Int32) : xI x xeV 54 [(0, va_rf (some l0)), (1, .int l1), (2, .int l2), (3, .int l3), (4, .int l4)] [] (fX3_readOf_p54 l0 l1 l2 l3 l4) := by
  unfold fX3_readOf_p54
  refine xr_iconst (0 : Int32) F dX3_readOf_54 rfl ?_
  exact xI.sub [0, 1, 2, 3, 4] rfl (fX3_readOf_p55_ok F hnL hRm hno hmn l0 l1 l2 l3 l4 (0 : Int32))
theorem fX3_readOf_p30_ok {x : xC} (F : xF x RX3 cX3_readOf none) (hnL : xnL x = 9) (hRm : ∃ dc ds, x.2.2.2.1 = { frames := 363, cells := dc, slots := ds, locals := 7335 }) (hno : ∀ pc, xNo x pc) (hmn : xmn x = "readOf" ∧ xmy x yX3_readOf) (l0 : Nat) (l1 : Int32) (l2 : Int32) (l3 : Int32) (s0 : Int32) : xI x xeV 30 [(0, va_rf (some l0)), (1, .int l1), (2, .int l2), (3, .int l3)] [.int s0] (fX3_readOf_p30 l0 l1 l2 l3 s0) := by
  unfold fX3_readOf_p30
  refine xs_i [0, 1, 2, 3] F dX3_readOf_30 hnL rfl rfl (xk1 rfl rfl (xk1 rfl rfl (xk1 rfl rfl (xk2 rfl rfl xk0)))) ?_
  refine xr_iload_n 4 F dX3_readOf_32 rfl ?_
  refine xr_if_ne 54 F dX3_readOf_33 rfl ?_ ?_
  · refine xr_iload 0 F dX3_readOf_36 rfl ?_
    refine xr_if_ne 54 F dX3_readOf_38 rfl ?_ ?_
    · refine xr_aload_n 1 (r := (some l0)) F dX3_readOf_41 rfl ?_
      refine xr_str (k := 21) F dX3_readOf_42 rfl (fun v42 => ?_)
      refine xr_VI (y := yX3_takes) (As := [va_rf v42]) (r := (some l0)) F (hno _) dX3_readOf_44 (fun z => fX3_takes_m (xFG F) z v42) (Or.inl rfl) (ci := 39) (C := RX3) (T := TX3) rfl q3527 q3524 q3526 qs58 (xroom hRm (Nat.le_of_ble_eq_true rfl) (Nat.le_of_ble_eq_true rfl)) ⟨by decide, by decide⟩ n_X3_takes rfl (xcat (Nat.le_of_ble_eq_true rfl)) (fun v44 => ?_)
      refine xr_if_eq 54 F dX3_readOf_47 rfl ?_ ?_
      · exact xI.sub [1, 2, 3, 4, 0] rfl (fX3_readOf_p54_ok F hnL hRm hno hmn l0 l1 l2 l3 s0)
      · refine xr_iconst (1 : Int32) F dX3_readOf_50 rfl ?_
        refine xr_goto 55 F dX3_readOf_51 rfl ?_
        exact xI.sub [1, 2, 3, 4, 0] rfl (fX3_readOf_p55_ok F hnL hRm hno hmn l0 l1 l2 l3 s0 (1 : Int32))
    · exact xI.sub [1, 2, 3, 4, 0] rfl (fX3_readOf_p54_ok F hnL hRm hno hmn l0 l1 l2 l3 s0)
  · exact xI.sub [1, 2, 3, 4, 0] rfl (fX3_readOf_p54_ok F hnL hRm hno hmn l0 l1 l2 l3 s0)
theorem fX3_readOf_p29_ok {x : xC} (F : xF x RX3 cX3_readOf none) (hnL : xnL x = 9) (hRm : ∃ dc ds, x.2.2.2.1 = { frames := 363, cells := dc, slots := ds, locals := 7335 }) (hno : ∀ pc, xNo x pc) (hmn : xmn x = "readOf" ∧ xmy x yX3_readOf) (l0 : Nat) (l1 : Int32) (l2 : Int32) (l3 : Int32) : xI x xeV 29 [(0, va_rf (some l0)), (1, .int l1), (2, .int l2), (3, .int l3)] [] (fX3_readOf_p29 l0 l1 l2 l3) := by
  unfold fX3_readOf_p29
  refine xr_iconst (0 : Int32) F dX3_readOf_29 rfl ?_
  exact xI.sub [0, 1, 2, 3] rfl (fX3_readOf_p30_ok F hnL hRm hno hmn l0 l1 l2 l3 (0 : Int32))
theorem fX3_readOf_m {l : Launch} {D : xD} {s0 : State} {b0 : Nat} {Γ : Nat → Option Nat} (G : xG l D s0 b0 Γ) (a0 : Nat) (p0 : Int32) : xMeth l D s0 Γ yX3_readOf (Cond.code yX3_readOf cX3_readOf 9 none) (363) (7335) [.ref a0, .int p0] xeV (fX3_readOf a0 p0) := by
  refine xMeth.of (lv0 := [(0, va_rf (some a0)), (1, .int p0)]) G (by decide +kernel) (Or.inl rfl) (Nat.le_of_ble_eq_true rfl) rfl (fun x F hnL hRm hmn ht e1 e2 e3 e4 => ?_)
  have hno : ∀ pc, xNo x pc := fun pc z hz => by rw [ht.1 rfl] at hz; cases hz
  unfold fX3_readOf
  refine xr_aload_n 0 (r := (some a0)) F dX3_readOf_0 rfl ?_
  refine xr_gI (r := (some a0)) (ref := "ReserveLedgerModel") F dX3_readOf_1 (C := RX3) (T := TX3) (N := 25) rfl (by decide) (Or.inl q3408) (Or.inl rfl) (fun v1 => ?_)
  refine xs_i_n [0, 1] F dX3_readOf_4 hnL rfl rfl (xk1 rfl rfl (xk2 rfl rfl xk0)) ?_
  refine xr_aload_n 1 (r := (some a0)) F dX3_readOf_5 rfl ?_
  refine xr_str (k := 19) F dX3_readOf_6 rfl (fun v6 => ?_)
  refine xr_VI (y := yX3_takes) (As := [va_rf v6]) (r := (some a0)) F (hno _) dX3_readOf_8 (fun z => fX3_takes_m (xFG F) z v6) (Or.inl rfl) (ci := 39) (C := RX3) (T := TX3) rfl q3527 q3524 q3526 qs58 (xroom hRm (Nat.le_of_ble_eq_true rfl) (Nat.le_of_ble_eq_true rfl)) ⟨by decide, by decide⟩ n_X3_takes rfl (xcat (Nat.le_of_ble_eq_true rfl)) (fun v8 => ?_)
  refine xs_i_n [0, 1, 2] F dX3_readOf_11 hnL rfl rfl (xk2 rfl rfl (xk1 rfl rfl (xk1 rfl rfl xk0))) ?_
  refine xr_iload_n 0 F dX3_readOf_12 rfl ?_
  refine xr_if_ne 29 F dX3_readOf_13 rfl ?_ ?_
  · refine xr_aload_n 2 (r := (some a0)) F dX3_readOf_16 rfl ?_
    refine xr_str (k := 20) F dX3_readOf_17 rfl (fun v17 => ?_)
    refine xr_VI (y := yX3_takes) (As := [va_rf v17]) (r := (some a0)) F (hno _) dX3_readOf_19 (fun z => fX3_takes_m (xFG F) z v17) (Or.inl rfl) (ci := 39) (C := RX3) (T := TX3) rfl q3527 q3524 q3526 qs58 (xroom hRm (Nat.le_of_ble_eq_true rfl) (Nat.le_of_ble_eq_true rfl)) ⟨by decide, by decide⟩ n_X3_takes rfl (xcat (Nat.le_of_ble_eq_true rfl)) (fun v19 => ?_)
    refine xr_if_eq 29 F dX3_readOf_22 rfl ?_ ?_
    · exact xI.sub [2, 3, 1, 0] rfl (fX3_readOf_p29_ok F hnL hRm hno hmn a0 p0 v1 v8)
    · refine xr_iconst (1 : Int32) F dX3_readOf_25 rfl ?_
      refine xr_goto 30 F dX3_readOf_26 rfl ?_
      exact xI.sub [2, 3, 1, 0] rfl (fX3_readOf_p30_ok F hnL hRm hno hmn a0 p0 v1 v8 (1 : Int32))
  · exact xI.sub [2, 3, 1, 0] rfl (fX3_readOf_p29_ok F hnL hRm hno hmn a0 p0 v1 v8)
