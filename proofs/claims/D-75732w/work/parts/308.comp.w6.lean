theorem fX0_variance_m {l : Launch} {D : xD} {s0 : State} {b0 : Nat} {Γ : Nat → Option Nat} (G : xG l D s0 b0 Γ) (p0 : Option Nat) (p1 : Int32) (p2 : Int32) (p3 : Option Nat) : xMeth l D s0 Γ yX0_variance (Cond.codeWith yX0_variance cX0_variance 5 (some .int) [(0, 9, 12, 25)]) (10) (179) [va_rf p0, .int p1, .int p2, va_rf p3] xeI (fX0_variance p0 p1 p2 p3) := by
  refine xMeth.of (lv0 := [(0, va_rf p0), (1, .int p1), (2, .int p2), (3, va_rf p3)]) G (by decide +kernel) (Or.inr ⟨_, rfl⟩) (by simp [lg_sl, xrf_cat, xct_i, xct_l, xct_d, xct_r]) (by simp [lv_args, xrf_cat, xct_i, xct_l, xct_d, xct_r, xrf_some]) (fun x F hnL hRm hmn ht e1 e2 e3 e4 => ?_)
  have htb : x.2.2.2.2.2.2.2.2.2.1.exceptionTable.toList = tableOf [(0, 9, 12, 25)] := ht.2 _ rfl
  unfold fX0_variance
  refine xr_aload_n 3 (r := p3) F dX0_variance_0 rfl ?_
  refine xr_iconst (0 : Int32) F dX0_variance_1 rfl ?_
  refine xr_aload_n 0 (r := p0) F dX0_variance_2 rfl ?_
  refine xr_iload_n 1 F dX0_variance_3 rfl ?_
  refine xr_iload_n 2 F dX0_variance_4 rfl ?_
  refine xr_VDT (y := yX1_variance) (As := [.int p1, .int p2]) (r := p0) F dX0_variance_5 (fun z => fX1_variance_m (xFG F) z p1 p2) (Or.inl rfl) (ci := 0) (C := RX1) (T := TX1) rfl q2789 q2786 q2787 q2788 (xroom hRm (Nat.le_of_ble_eq_true rfl) (Nat.le_of_ble_eq_true rfl)) ⟨by decide, by decide⟩ n_X1_variance rfl (xcat (Nat.le_of_ble_eq_true rfl)) (fun v5 => ?_) (fun q => ?_)
  · refine xr_dast (r := p3) F dX0_variance_8 ?_
    refine xr_goto 16 F dX0_variance_9 rfl ?_
    refine xr_iconst (0 : Int32) F dX0_variance_16 rfl ?_
    exact xr_iret F dX0_variance_17
  · refine xT.catch F htb (tableOf []) ⟨0, 9, 12, 25⟩ (tableOf []) rfl rfl xps0 rfl (Or.inr ⟨by decide, _, q2481, q739⟩) ?_
    refine xs_a [] F dX0_variance_12 hnL rfl rfl xk0 ?_
    refine xr_iconst (1 : Int32) F dX0_variance_14 rfl ?_
    exact xr_iret F dX0_variance_15
theorem fX1_pooled_p18_ok {x : xC} (F : xF x RX1 cX1_pooled (some .double)) (hnL : xnL x = 8) (hRm : ∃ dc ds, x.2.2.2.1 = { frames := 8, cells := dc, slots := ds, locals := 131 }) (hno : ∀ pc, xNo x pc) (hmn : xmn x = "pooled" ∧ xmy x yX1_pooled) : ∀ (n : Nat) (l2 : Int64) (l4 : Int64) (l6 : Option Nat), xI x xeD 18 [(2, .long l2), (4, .long l4), (6, va_rf l6)] [] (fX1_pooled_p18 n l2 l4 l6) := by
  intro n
  induction n with
  | zero => intro l2 l4 l6; exact xI.stuck
  | succ n ih =>
    intro l2 l4 l6
    unfold fX1_pooled_p18
    refine xr_aload 2 (r := l6) F dX1_pooled_18 rfl ?_
    refine xr_FI (x0 := ⟨"java/util/Iterator", "hasNext", "()Z"⟩) (y := yJ41_hasNext) (As := []) (r := l6) F (hno _) dX1_pooled_20 (fun z => fJ41_hasNext_m (xFG F) z) rfl (ci := 12) (C := RJ41) (T := TJ41) rfl q847 q824 q845 q843 q826 q825 q846 q844 q842 (xroom hRm (Nat.le_of_ble_eq_true rfl) (Nat.le_of_ble_eq_true rfl)) ⟨by decide, by decide⟩ n_J41_hasNext rfl (xcat (Nat.le_of_ble_eq_true rfl)) (fun v20 => ?_)
    refine xr_if_eq 70 F dX1_pooled_25 rfl ?_ ?_
    · refine xr_lload 1 F dX1_pooled_70 rfl ?_
      refine xr_lconst 0 F dX1_pooled_72 rfl ?_
      refine xr_lcmp F dX1_pooled_73 ?_
      refine xr_if_ne 81 F dX1_pooled_74 rfl ?_ ?_
      · refine xr_dconst0 F dX1_pooled_77 ?_
        refine xr_goto 87 F dX1_pooled_78 rfl ?_
        exact xr_dret F dX1_pooled_87
      · refine xr_lload_n 0 F dX1_pooled_81 rfl ?_
        refine xr_l2d F dX1_pooled_82 ?_
        refine xr_lload 1 F dX1_pooled_83 rfl ?_
        refine xr_l2d F dX1_pooled_85 ?_
        refine xr_ddiv F dX1_pooled_86 ?_
        exact xr_dret F dX1_pooled_87
    · refine xr_aload 2 (r := l6) F dX1_pooled_28 rfl ?_
      refine xr_FR (x0 := ⟨"java/util/Iterator", "next", "()Ljava/lang/Object;"⟩) (y := yJ41_next) (As := []) (r := l6) F (hno _) dX1_pooled_30 (fun z => fJ41_next_m (xFG F) z) rfl (ci := 12) (C := RJ41) (T := TJ41) rfl q1053 q883 q1051 q1049 q885 q884 q1052 q1050 q842 (xroom hRm (Nat.le_of_ble_eq_true rfl) (Nat.le_of_ble_eq_true rfl)) ⟨by decide, by decide⟩ n_J41_next rfl (xcat (Nat.le_of_ble_eq_true rfl)) (fun v30 => ?_)
      refine xr_castE (ci := 37) (r := v30) F dX1_pooled_35 q2766 rfl ?_
      refine xs_a [0, 1, 2] F dX1_pooled_38 hnL rfl rfl (xk1 rfl rfl (xk1 rfl rfl (xk2 rfl (xrf_cat _) xk0))) ?_
      refine xr_lload_n 1 F dX1_pooled_40 rfl ?_
      refine xr_aload 0 (r := v30) F dX1_pooled_41 rfl ?_
      refine xr_gI (r := v30) (ref := "ReserveLedger$Sighting") F dX1_pooled_43 (C := RX17) (T := TX17) (N := 4) rfl (by decide) (Or.inr ⟨_, q3258⟩) (Or.inl rfl) (fun v43 => ?_)
      refine xr_i2l F dX1_pooled_46 ?_
      refine xr_aload 0 (r := v30) F dX1_pooled_47 rfl ?_
      refine xr_gI (r := v30) (ref := "ReserveLedger$Sighting") F dX1_pooled_49 (C := RX17) (T := TX17) (N := 4) rfl (by decide) (Or.inr ⟨_, q3256⟩) (Or.inl rfl) (fun v49 => ?_)
      refine xr_i2l F dX1_pooled_52 ?_
      refine xr_lmul F dX1_pooled_53 ?_
      refine xr_ladd F dX1_pooled_54 ?_
      refine xr_letJ (fun x2_55 => ?_)
      refine xs_l_n [0, 2, 3] F dX1_pooled_55 hnL rfl rfl (xk1 rfl rfl (xk1 rfl rfl (xk1 rfl rfl xk0))) (xk21 rfl (xk21 rfl (xk21 rfl xk20))) ?_
      refine xr_lload 2 F dX1_pooled_56 rfl ?_
      refine xr_aload 1 (r := v30) F dX1_pooled_58 rfl ?_
      refine xr_gI (r := v30) (ref := "ReserveLedger$Sighting") F dX1_pooled_60 (C := RX17) (T := TX17) (N := 4) rfl (by decide) (Or.inr ⟨_, q3260⟩) (Or.inl rfl) (fun v60 => ?_)
      refine xr_i2l F dX1_pooled_63 ?_
      refine xr_ladd F dX1_pooled_64 ?_
      refine xr_letJ (fun x4_65 => ?_)
      refine xs_l [0, 3] F dX1_pooled_65 hnL rfl rfl (xk1 rfl rfl (xk1 rfl rfl xk0)) (xk21 rfl (xk21 rfl xk20)) ?_
      refine xr_goto 18 F dX1_pooled_67 rfl ?_
      exact xI.sub [1, 0, 2] rfl (ih x2_55 x4_65 l6)
theorem fX1_pooled_m {l : Launch} {D : xD} {s0 : State} {b0 : Nat} {Γ : Nat → Option Nat} (G : xG l D s0 b0 Γ) (a0 : Nat) (p0 : Int32) : xMeth l D s0 Γ yX1_pooled (Cond.code yX1_pooled cX1_pooled 8 (some .double)) (8) (131) [.ref a0, .int p0] xeD (fX1_pooled a0 p0) := by
  refine xMeth.of (lv0 := [(0, va_rf (some a0)), (1, .int p0)]) G (by decide +kernel) (Or.inl rfl) (Nat.le_of_ble_eq_true rfl) rfl (fun x F hnL hRm hmn ht e1 e2 e3 e4 => ?_)
  have hno : ∀ pc, xNo x pc := fun pc z hz => by rw [ht.1 rfl] at hz; cases hz
  unfold fX1_pooled
  refine xr_lconst 0 F dX1_pooled_0 rfl ?_
  refine xr_letJ (fun x2_1 => ?_)
  refine xs_l_n [0, 1] F dX1_pooled_1 hnL rfl rfl (xk1 rfl rfl (xk2 rfl rfl xk0)) (xk21 rfl (xk21 rfl xk20)) ?_
  refine xr_lconst 0 F dX1_pooled_2 rfl ?_
  refine xr_letJ (fun x4_3 => ?_)
  refine xs_l [0, 1, 2] F dX1_pooled_3 hnL rfl rfl (xk1 rfl rfl (xk1 rfl rfl (xk1 rfl rfl xk0))) (xk21 rfl (xk21 rfl (xk21 rfl xk20))) ?_
  refine xr_aload_n 2 (r := (some a0)) F dX1_pooled_5 rfl ?_
  refine xr_iload_n 3 F dX1_pooled_6 rfl ?_
  refine xr_VR (y := yX1_herd) (As := [.int p0]) (r := (some a0)) F (hno _) dX1_pooled_7 (fun z => fX1_herd_m (xFG F) z p0) (Or.inl rfl) (ci := 0) (C := RX1) (T := TX1) rfl q2504 q2501 q2503 qs34 (xroom hRm (Nat.le_of_ble_eq_true rfl) (Nat.le_of_ble_eq_true rfl)) ⟨by decide, by decide⟩ n_X1_herd rfl (xcat (Nat.le_of_ble_eq_true rfl)) (fun v7 => ?_)
  refine xr_gR (r := v7) (ref := "ReserveLedger$Herd") F dX1_pooled_10 (C := RX6) (T := TX6) (N := 8) rfl (by decide) (Or.inr ⟨_, q2055⟩) (Or.inl rfl) (fun v10 => ?_)
  refine xr_VR (y := yJ27_iterator) (As := []) (r := v10) F (hno _) dX1_pooled_13 (fun z => fJ27_iterator_m (xFG F) z) (Or.inl rfl) (ci := 23) (C := RJ27) (T := TJ27) rfl q1181 q2765 q1179 q3999 (xroom hRm (Nat.le_of_ble_eq_true rfl) (Nat.le_of_ble_eq_true rfl)) ⟨by decide, by decide⟩ n_J27_iterator rfl (xcat (Nat.le_of_ble_eq_true rfl)) (fun v13 => ?_)
  refine xs_a [0, 1] F dX1_pooled_16 hnL rfl rfl (xk1 rfl rfl (xk1 rfl rfl xk0)) ?_
  exact xI.sub [2, 1, 0] rfl (fX1_pooled_p18_ok F hnL hRm hno hmn xFU x2_1 x4_3 v13)
theorem fX0_pooled_m {l : Launch} {D : xD} {s0 : State} {b0 : Nat} {Γ : Nat → Option Nat} (G : xG l D s0 b0 Γ) (p0 : Option Nat) (p1 : Int32) (p2 : Option Nat) : xMeth l D s0 Γ yX0_pooled (Cond.codeWith yX0_pooled cX0_pooled 4 (some .int) [(0, 8, 11, 25)]) (9) (158) [va_rf p0, .int p1, va_rf p2] xeI (fX0_pooled p0 p1 p2) := by
  refine xMeth.of (lv0 := [(0, va_rf p0), (1, .int p1), (2, va_rf p2)]) G (by decide +kernel) (Or.inr ⟨_, rfl⟩) (by simp [lg_sl, xrf_cat, xct_i, xct_l, xct_d, xct_r]) (by simp [lv_args, xrf_cat, xct_i, xct_l, xct_d, xct_r, xrf_some]) (fun x F hnL hRm hmn ht e1 e2 e3 e4 => ?_)
  have htb : x.2.2.2.2.2.2.2.2.2.1.exceptionTable.toList = tableOf [(0, 8, 11, 25)] := ht.2 _ rfl
  unfold fX0_pooled
  refine xr_aload_n 2 (r := p2) F dX0_pooled_0 rfl ?_
  refine xr_iconst (0 : Int32) F dX0_pooled_1 rfl ?_
  refine xr_aload_n 0 (r := p0) F dX0_pooled_2 rfl ?_
  refine xr_iload_n 1 F dX0_pooled_3 rfl ?_
  refine xr_VDT (y := yX1_pooled) (As := [.int p1]) (r := p0) F dX0_pooled_4 (fun z => fX1_pooled_m (xFG F) z p1) (Or.inl rfl) (ci := 0) (C := RX1) (T := TX1) rfl q2800 q2797 q2798 q2799 (xroom hRm (Nat.le_of_ble_eq_true rfl) (Nat.le_of_ble_eq_true rfl)) ⟨by decide, by decide⟩ n_X1_pooled rfl (xcat (Nat.le_of_ble_eq_true rfl)) (fun v4 => ?_) (fun q => ?_)
  · refine xr_dast (r := p2) F dX0_pooled_7 ?_
    refine xr_goto 14 F dX0_pooled_8 rfl ?_
    refine xr_iconst (0 : Int32) F dX0_pooled_14 rfl ?_
    exact xr_iret F dX0_pooled_15
  · refine xT.catch F htb (tableOf []) ⟨0, 8, 11, 25⟩ (tableOf []) rfl rfl xps0 rfl (Or.inr ⟨by decide, _, q2481, q739⟩) ?_
    refine xs_a_n [] F dX0_pooled_11 hnL rfl rfl xk0 ?_
    refine xr_iconst (1 : Int32) F dX0_pooled_12 rfl ?_
    exact xr_iret F dX0_pooled_13
theorem fJ45_siftDownUsingComparator_p88_ok {x : xC} (F : xF x RJ45 cJ45_siftDownUsingComparator none) (hnL : xnL x = 9) (hRm : ∃ dc ds, x.2.2.2.1 = { frames := 5, cells := dc, slots := ds, locals := 98 }) (hno : ∀ pc, xNo x pc) (hmn : xmn x = "siftDownUsingComparator" ∧ xmy x yJ45_siftDownUsingComparator) (l0 : Int32) (l1 : Option Nat) (l2 : Option Nat) : xI x xeV 88 [(0, .int l0), (1, va_rf l1), (2, va_rf l2)] [] (fJ45_siftDownUsingComparator_p88 l0 l1 l2) := by
  unfold fJ45_siftDownUsingComparator_p88
  refine xr_aload_n 2 (r := l2) F dJ45_siftDownUsingComparator_88 rfl ?_
  refine xr_iload_n 0 F dJ45_siftDownUsingComparator_89 rfl ?_
  refine xr_aload_n 1 (r := l1) F dJ45_siftDownUsingComparator_90 rfl ?_
  refine xr_aast (v := l1) (r := l2) F dJ45_siftDownUsingComparator_91 rfl xokObj_ok ?_
  exact xr_vret F dJ45_siftDownUsingComparator_92
theorem fJ45_siftDownUsingComparator_p61_ok {x : xC} (F : xF x RJ45 cJ45_siftDownUsingComparator none) (hnL : xnL x = 9) (hRm : ∃ dc ds, x.2.2.2.1 = { frames := 5, cells := dc, slots := ds, locals := 98 }) (hno : ∀ pc, xNo x pc) (hmn : xmn x = "siftDownUsingComparator" ∧ xmy x yJ45_siftDownUsingComparator) {k5 : Int32 → Option Nat → Option Nat → Int32 → Option Nat → Int32 → xM (Unit)} (hk5 : ∀ (l0 : Int32) (l1 : Option Nat) (l2 : Option Nat) (l3 : Int32) (l4 : Option Nat) (l5 : Int32), xI x xeV 5 [(0, .int l0), (1, va_rf l1), (2, va_rf l2), (3, .int l3), (4, va_rf l4), (5, .int l5)] [] (k5 l0 l1 l2 l3 l4 l5)) (l0 : Int32) (l1 : Option Nat) (l2 : Option Nat) (l3 : Int32) (l4 : Option Nat) (l5 : Int32) (l6 : Int32) (l7 : Option Nat) : xI x xeV 61 [(0, .int l0), (1, va_rf l1), (2, va_rf l2), (3, .int l3), (4, va_rf l4), (5, .int l5), (6, .int l6), (7, va_rf l7)] [] (fJ45_siftDownUsingComparator_p61 k5 l0 l1 l2 l3 l4 l5 l6 l7) := by
  unfold fJ45_siftDownUsingComparator_p61
  refine xr_aload 4 (r := l4) F dJ45_siftDownUsingComparator_61 rfl ?_
  refine xr_aload_n 1 (r := l1) F dJ45_siftDownUsingComparator_63 rfl ?_
  refine xr_aload 7 (r := l7) F dJ45_siftDownUsingComparator_64 rfl ?_
  refine xr_FI (x0 := ⟨"java/util/Comparator", "compare", "(Ljava/lang/Object;Ljava/lang/Object;)I"⟩) (y := yX16_compare) (As := [va_rf l1, va_rf l7]) (r := l4) F (hno _) dJ45_siftDownUsingComparator_66 (fun z => fX16_compare_m (xFG F) z l1 l7) rfl (ci := 34) (C := RX16) (T := TX16) rfl q1343 q2882 q1341 q1339 q1337 q1336 q1342 q1340 q1338 (xroom hRm (Nat.le_of_ble_eq_true rfl) (Nat.le_of_ble_eq_true rfl)) ⟨by decide, by decide⟩ n_X16_compare rfl (xcat (Nat.le_of_ble_eq_true rfl)) (fun v66 => ?_)
  refine xr_if_gt 77 F dJ45_siftDownUsingComparator_71 rfl ?_ ?_
  · refine xr_aload_n 2 (r := l2) F dJ45_siftDownUsingComparator_77 rfl ?_
    refine xr_iload_n 0 F dJ45_siftDownUsingComparator_78 rfl ?_
    refine xr_aload 7 (r := l7) F dJ45_siftDownUsingComparator_79 rfl ?_
    refine xr_aast (v := l7) (r := l2) F dJ45_siftDownUsingComparator_81 rfl xokObj_ok ?_
    refine xr_iload 6 F dJ45_siftDownUsingComparator_82 rfl ?_
    refine xs_i_n [1, 2, 3, 4, 5] F dJ45_siftDownUsingComparator_84 hnL rfl rfl (xk1 rfl rfl (xk1 rfl rfl (xk1 rfl rfl (xk1 rfl rfl (xk1 rfl rfl xk0))))) ?_
    refine xr_goto 5 F dJ45_siftDownUsingComparator_85 rfl ?_
    exact xI.sub [0, 1, 2, 3, 4, 5] rfl (hk5 l6 l1 l2 l3 l4 l5)
  · refine xr_goto 88 F dJ45_siftDownUsingComparator_74 rfl ?_
    exact xI.sub [0, 1, 2] rfl (fJ45_siftDownUsingComparator_p88_ok F hnL hRm hno hmn l0 l1 l2)
theorem fJ45_siftDownUsingComparator_p5_ok {x : xC} (F : xF x RJ45 cJ45_siftDownUsingComparator none) (hnL : xnL x = 9) (hRm : ∃ dc ds, x.2.2.2.1 = { frames := 5, cells := dc, slots := ds, locals := 98 }) (hno : ∀ pc, xNo x pc) (hmn : xmn x = "siftDownUsingComparator" ∧ xmy x yJ45_siftDownUsingComparator) : ∀ (n : Nat) (l0 : Int32) (l1 : Option Nat) (l2 : Option Nat) (l3 : Int32) (l4 : Option Nat) (l5 : Int32), xI x xeV 5 [(0, .int l0), (1, va_rf l1), (2, va_rf l2), (3, .int l3), (4, va_rf l4), (5, .int l5)] [] (fJ45_siftDownUsingComparator_p5 n l0 l1 l2 l3 l4 l5) := by
  intro n
  induction n with
  | zero => intro l0 l1 l2 l3 l4 l5; exact xI.stuck
  | succ n ih =>
    intro l0 l1 l2 l3 l4 l5
    unfold fJ45_siftDownUsingComparator_p5
    refine xr_iload_n 0 F dJ45_siftDownUsingComparator_5 rfl ?_
    refine xr_iload 5 F dJ45_siftDownUsingComparator_6 rfl ?_
    refine xr_icmp_ge 88 F dJ45_siftDownUsingComparator_8 rfl ?_ ?_
    · exact xI.sub [0, 1, 2] rfl (fJ45_siftDownUsingComparator_p88_ok F hnL hRm hno hmn l0 l1 l2)
    · refine xr_iload_n 0 F dJ45_siftDownUsingComparator_11 rfl ?_
      refine xr_iconst (1 : Int32) F dJ45_siftDownUsingComparator_12 rfl ?_
      refine xr_ishl F dJ45_siftDownUsingComparator_13 ?_
      refine xr_iconst (1 : Int32) F dJ45_siftDownUsingComparator_14 rfl ?_
      refine xr_iadd F dJ45_siftDownUsingComparator_15 ?_
      refine xr_letI (fun x6_16 => ?_)
      refine xs_i [0, 1, 2, 3, 4, 5] F dJ45_siftDownUsingComparator_16 hnL rfl rfl (xk1 rfl rfl (xk1 rfl rfl (xk1 rfl rfl (xk1 rfl rfl (xk1 rfl rfl (xk2 rfl rfl xk0)))))) ?_
      refine xr_aload_n 3 (r := l2) F dJ45_siftDownUsingComparator_18 rfl ?_
      refine xr_iload 0 F dJ45_siftDownUsingComparator_19 rfl ?_
      refine xr_aald (r := l2) F dJ45_siftDownUsingComparator_21 (fun v21 => ?_)
      refine xs_a [0, 1, 2, 3, 4, 5, 6] F dJ45_siftDownUsingComparator_22 hnL rfl rfl (xk2 rfl rfl (xk1 rfl rfl (xk1 rfl rfl (xk1 rfl rfl (xk1 rfl rfl (xk1 rfl rfl (xk1 rfl rfl xk0))))))) ?_
      refine xr_iload 1 F dJ45_siftDownUsingComparator_24 rfl ?_
      refine xr_iconst (1 : Int32) F dJ45_siftDownUsingComparator_26 rfl ?_
      refine xr_iadd F dJ45_siftDownUsingComparator_27 ?_
      refine xr_letI (fun x8_28 => ?_)
      refine xs_i [0, 1, 2, 3, 4, 5, 6, 7] F dJ45_siftDownUsingComparator_28 hnL rfl rfl (xk2 rfl (xrf_cat _) (xk1 rfl rfl (xk1 rfl rfl (xk1 rfl rfl (xk1 rfl rfl (xk1 rfl rfl (xk1 rfl rfl (xk1 rfl rfl xk0)))))))) ?_
      refine xr_iload 0 F dJ45_siftDownUsingComparator_30 rfl ?_
      refine xr_iload_n 6 F dJ45_siftDownUsingComparator_32 rfl ?_
      refine xr_icmp_ge 61 F dJ45_siftDownUsingComparator_33 rfl ?_ ?_
      · exact xI.sub [3, 4, 5, 6, 7, 8, 2, 1] rfl (fJ45_siftDownUsingComparator_p61_ok F hnL hRm hno hmn ih l0 l1 l2 l3 l4 l5 x6_16 v21)
      · refine xr_aload 7 (r := l4) F dJ45_siftDownUsingComparator_36 rfl ?_
        refine xr_aload 1 (r := v21) F dJ45_siftDownUsingComparator_38 rfl ?_
        refine xr_aload_n 5 (r := l2) F dJ45_siftDownUsingComparator_40 rfl ?_
        refine xr_iload 0 F dJ45_siftDownUsingComparator_41 rfl ?_
        refine xr_aald (r := l2) F dJ45_siftDownUsingComparator_43 (fun v43 => ?_)
        refine xr_FI (x0 := ⟨"java/util/Comparator", "compare", "(Ljava/lang/Object;Ljava/lang/Object;)I"⟩) (y := yX16_compare) (As := [va_rf v21, va_rf v43]) (r := l4) F (hno _) dJ45_siftDownUsingComparator_44 (fun z => fX16_compare_m (xFG F) z v21 v43) rfl (ci := 34) (C := RX16) (T := TX16) rfl q1343 q2882 q1341 q1339 q1337 q1336 q1342 q1340 q1338 (xroom hRm (Nat.le_of_ble_eq_true rfl) (Nat.le_of_ble_eq_true rfl)) ⟨by decide, by decide⟩ n_X16_compare rfl (xcat (Nat.le_of_ble_eq_true rfl)) (fun v44 => ?_)
        refine xr_if_le 61 F dJ45_siftDownUsingComparator_49 rfl ?_ ?_
        · exact xI.sub [3, 4, 5, 6, 7, 8, 2, 1] rfl (fJ45_siftDownUsingComparator_p61_ok F hnL hRm hno hmn ih l0 l1 l2 l3 l4 l5 x6_16 v21)
        · refine xr_aload_n 5 (r := l2) F dJ45_siftDownUsingComparator_52 rfl ?_
          refine xr_iload 0 F dJ45_siftDownUsingComparator_53 rfl ?_
          refine xr_dup F dJ45_siftDownUsingComparator_55 rfl ?_
          refine xs_i [3, 4, 5, 6, 7, 8] F dJ45_siftDownUsingComparator_56 hnL rfl rfl (xk1 rfl rfl (xk1 rfl rfl (xk1 rfl rfl (xk1 rfl rfl (xk1 rfl rfl (xk2 rfl rfl xk0)))))) ?_
          refine xr_aald (r := l2) F dJ45_siftDownUsingComparator_58 (fun v58 => ?_)
          refine xs_a [0, 1, 2, 3, 4, 5, 6] F dJ45_siftDownUsingComparator_59 hnL rfl rfl (xk2 rfl rfl (xk1 rfl rfl (xk1 rfl rfl (xk1 rfl rfl (xk1 rfl rfl (xk1 rfl rfl (xk1 rfl rfl xk0))))))) ?_
          exact xI.sub [2, 3, 4, 5, 6, 7, 1, 0] rfl (fJ45_siftDownUsingComparator_p61_ok F hnL hRm hno hmn ih l0 l1 l2 l3 l4 l5 x8_28 v58)
theorem fJ45_siftDownUsingComparator_m {l : Launch} {D : xD} {s0 : State} {b0 : Nat} {Γ : Nat → Option Nat} (G : xG l D s0 b0 Γ) (p0 : Int32) (p1 : Option Nat) (p2 : Option Nat) (p3 : Int32) (p4 : Option Nat) : xMeth l D s0 Γ yJ45_siftDownUsingComparator (Cond.code yJ45_siftDownUsingComparator cJ45_siftDownUsingComparator 9 none) (5) (98) [.int p0, va_rf p1, va_rf p2, .int p3, va_rf p4] xeV (fJ45_siftDownUsingComparator p0 p1 p2 p3 p4) := by
  refine xMeth.of (lv0 := [(0, .int p0), (1, va_rf p1), (2, va_rf p2), (3, .int p3), (4, va_rf p4)]) G (by decide +kernel) (Or.inl rfl) (by simp [lg_sl, xrf_cat, xct_i, xct_l, xct_d, xct_r]) (by simp [lv_args, xrf_cat, xct_i, xct_l, xct_d, xct_r, xrf_some]) (fun x F hnL hRm hmn ht e1 e2 e3 e4 => ?_)
  have hno : ∀ pc, xNo x pc := fun pc z hz => by rw [ht.1 rfl] at hz; cases hz
  unfold fJ45_siftDownUsingComparator
  refine xr_iload_n 3 F dJ45_siftDownUsingComparator_0 rfl ?_
  refine xr_iconst (1 : Int32) F dJ45_siftDownUsingComparator_1 rfl ?_
  refine xr_iushr F dJ45_siftDownUsingComparator_2 ?_
  refine xr_letI (fun x5_3 => ?_)
  refine xs_i [0, 1, 2, 3, 4] F dJ45_siftDownUsingComparator_3 hnL rfl rfl (xk1 rfl rfl (xk1 rfl rfl (xk1 rfl rfl (xk1 rfl rfl (xk2 rfl (xrf_cat _) xk0))))) ?_
  exact xI.sub [1, 2, 3, 4, 5, 0] rfl (fJ45_siftDownUsingComparator_p5_ok F hnL hRm hno hmn xFU p0 p1 p2 p3 p4 x5_3)
theorem fJ45_poll_m {l : Launch} {D : xD} {s0 : State} {b0 : Nat} {Γ : Nat → Option Nat} (G : xG l D s0 b0 Γ) (a0 : Nat) : xMeth l D s0 Γ yJ45_poll (Cond.code yJ45_poll cJ45_poll 6 (some (.object "java/lang/Object"))) (6) (126) [.ref a0] xeR (fJ45_poll a0) := by
  refine xMeth.of (lv0 := [(0, va_rf (some a0))]) G (by decide +kernel) (Or.inl rfl) (Nat.le_of_ble_eq_true rfl) rfl (fun x F hnL hRm hmn ht e1 e2 e3 e4 => ?_)
  have hno : ∀ pc, xNo x pc := fun pc z hz => by rw [ht.1 rfl] at hz; cases hz
  unfold fJ45_poll
  refine xr_aload_n 0 (r := (some a0)) F dJ45_poll_0 rfl ?_
  refine xr_gR (r := (some a0)) (ref := "java/util/PriorityQueue") F dJ45_poll_1 (C := RJ45) (T := TJ45) (N := 4) rfl (by decide) (Or.inl q2836) (Or.inl rfl) (fun v1 => ?_)
  refine xr_dup F dJ45_poll_4 (xrf_cat _) ?_
  refine xs_a_n [0] F dJ45_poll_5 hnL rfl rfl (xk2 rfl (xrf_cat _) xk0) ?_
  refine xr_iconst (0 : Int32) F dJ45_poll_6 rfl ?_
  refine xr_aald (r := v1) F dJ45_poll_7 (fun v7 => ?_)
  refine xr_dup F dJ45_poll_8 (xrf_cat _) ?_
  refine xs_a_n [0, 1] F dJ45_poll_9 hnL rfl rfl (xk2 rfl (xrf_cat _) (xk1 rfl rfl xk0)) ?_
  refine xr_ifnull 79 F dJ45_poll_10 rfl ?_ ?_
  · refine xr_aload_n 0 (r := v7) F dJ45_poll_79 rfl ?_
    exact xr_aret (v := v7) F dJ45_poll_80 (Or.inl ⟨_, rfl⟩)
  · refine xr_aload_n 2 (r := (some a0)) F dJ45_poll_13 rfl ?_
    refine xr_dup F dJ45_poll_14 (xrf_cat _) ?_
    refine xr_gI (r := (some a0)) (ref := "java/util/PriorityQueue") F dJ45_poll_15 (C := RJ45) (T := TJ45) (N := 4) rfl (by decide) (Or.inl q2841) (Or.inl rfl) (fun v15 => ?_)
    refine xr_iconst (1 : Int32) F dJ45_poll_18 rfl ?_
    refine xr_iadd F dJ45_poll_19 ?_
    refine xr_put (r := (some a0)) (ref := "java/util/PriorityQueue") F dJ45_poll_20 xk_33 (by decide) (Or.inl q2841) (Or.inl rfl) (Or.inl rfl) ⟨rfl, rfl⟩ ?_
    refine xr_aload_n 1 (r := v1) F dJ45_poll_23 rfl ?_
    refine xr_aload_n 2 (r := (some a0)) F dJ45_poll_24 rfl ?_
    refine xr_dup F dJ45_poll_25 (xrf_cat _) ?_
    refine xr_gI (r := (some a0)) (ref := "java/util/PriorityQueue") F dJ45_poll_26 (C := RJ45) (T := TJ45) (N := 4) rfl (by decide) (Or.inl q2838) (Or.inl rfl) (fun v26 => ?_)
    refine xr_iconst (1 : Int32) F dJ45_poll_29 rfl ?_
    refine xr_isub F dJ45_poll_30 ?_
    refine xr_letI (fun x_31 => ?_)
    refine xr_dup_x1 F dJ45_poll_31 rfl (xrf_cat _) ?_
    refine xr_put (r := (some a0)) (ref := "java/util/PriorityQueue") F dJ45_poll_32 xk_33 (by decide) (Or.inl q2838) (Or.inl rfl) (Or.inl rfl) ⟨rfl, rfl⟩ ?_
    refine xr_dup F dJ45_poll_35 rfl ?_
    refine xs_i_n [0, 1, 2] F dJ45_poll_36 hnL rfl rfl (xk2 rfl (xrf_cat _) (xk1 rfl rfl (xk1 rfl rfl xk0))) ?_
    refine xr_aald (r := v1) F dJ45_poll_37 (fun v37 => ?_)
    refine xs_a [0, 1, 2, 3] F dJ45_poll_38 hnL rfl rfl (xk2 rfl rfl (xk1 rfl rfl (xk1 rfl rfl (xk1 rfl rfl xk0)))) ?_
    refine xr_aload_n 3 (r := v1) F dJ45_poll_40 rfl ?_
    refine xr_iload_n 1 F dJ45_poll_41 rfl ?_
    refine xr_null F dJ45_poll_42 ?_
    refine xr_aast (v := none) (r := v1) F dJ45_poll_43 rfl xokObj_ok ?_
    refine xr_iload_n 1 F dJ45_poll_44 rfl ?_
    refine xr_if_le 79 F dJ45_poll_45 rfl ?_ ?_
    · refine xr_aload_n 2 (r := v7) F dJ45_poll_79 rfl ?_
      exact xr_aret (v := v7) F dJ45_poll_80 (Or.inl ⟨_, rfl⟩)
    · refine xr_aload_n 4 (r := (some a0)) F dJ45_poll_48 rfl ?_
      refine xr_gR (r := (some a0)) (ref := "java/util/PriorityQueue") F dJ45_poll_49 (C := RJ45) (T := TJ45) (N := 4) rfl (by decide) (Or.inl q2839) (Or.inl rfl) (fun v49 => ?_)
      refine xr_dup F dJ45_poll_52 (xrf_cat _) ?_
      refine xs_a [0, 1, 2, 3] F dJ45_poll_53 hnL rfl rfl (xk2 rfl (xrf_cat _) (xk1 rfl rfl (xk1 rfl rfl (xk1 rfl rfl xk0)))) ?_
      refine xr_ifnonnull 69 F dJ45_poll_55 rfl ?_ ?_
      · refine xr_iconst (0 : Int32) F dJ45_poll_58 rfl ?_
        refine xr_aload 1 (r := v37) F dJ45_poll_59 rfl ?_
        refine xr_aload_n 4 (r := v1) F dJ45_poll_61 rfl ?_
        refine xr_iload_n 2 F dJ45_poll_62 rfl ?_
        exact xI.stuck
      · refine xr_iconst (0 : Int32) F dJ45_poll_69 rfl ?_
        refine xr_aload 1 (r := v37) F dJ45_poll_70 rfl ?_
        refine xr_aload_n 4 (r := v1) F dJ45_poll_72 rfl ?_
        refine xr_iload_n 2 F dJ45_poll_73 rfl ?_
        refine xr_aload 0 (r := v49) F dJ45_poll_74 rfl ?_
        refine xr_SV (y := yJ45_siftDownUsingComparator) (As := [.int (0 : Int32), va_rf v37, va_rf v1, .int x_31, va_rf v49]) F (hno _) dJ45_poll_76 (fJ45_siftDownUsingComparator_m (xFG F) (0 : Int32) v37 v1 x_31 v49) (Or.inl rfl) q2901 q187 (Or.inl q2899) q2900 (xroom hRm (Nat.le_of_ble_eq_true rfl) (Nat.le_of_ble_eq_true rfl)) ⟨by decide, by decide⟩ n_J45_siftDownUsingComparator rfl (xcat (Nat.le_of_ble_eq_true rfl)) (fun _ => ?_)
        refine xr_aload_n 3 (r := v7) F dJ45_poll_79 rfl ?_
        exact xr_aret (v := v7) F dJ45_poll_80 (Or.inl ⟨_, rfl⟩)
theorem fJ45_size_m {l : Launch} {D : xD} {s0 : State} {b0 : Nat} {Γ : Nat → Option Nat} (G : xG l D s0 b0 Γ) (a0 : Nat) : xMeth l D s0 Γ yJ45_size (Cond.code yJ45_size cJ45_size 1 (some .int)) (1) (12) [.ref a0] xeI (fJ45_size a0) := by
  refine xMeth.of (lv0 := [(0, va_rf (some a0))]) G (by decide +kernel) (Or.inl rfl) (Nat.le_of_ble_eq_true rfl) rfl (fun x F hnL hRm hmn ht e1 e2 e3 e4 => ?_)
  have hno : ∀ pc, xNo x pc := fun pc z hz => by rw [ht.1 rfl] at hz; cases hz
  unfold fJ45_size
  refine xr_aload_n 0 (r := (some a0)) F dJ45_size_0 rfl ?_
  refine xr_gI (r := (some a0)) (ref := "java/util/PriorityQueue") F dJ45_size_1 (C := RJ45) (T := TJ45) (N := 4) rfl (by decide) (Or.inl q2838) (Or.inl rfl) (fun v1 => ?_)
  exact xr_iret F dJ45_size_4
theorem fJ0_isEmpty__J45_m {l : Launch} {D : xD} {s0 : State} {b0 : Nat} {Γ : Nat → Option Nat} (G : xG l D s0 b0 Γ) (a0 : Nat) : xMeth l D s0 Γ yJ0_isEmpty (Cond.code yJ0_isEmpty cJ0_isEmpty 1 (some .boolean)) (2) (32) [.ref a0] xeI (fJ0_isEmpty__J45 a0) := by
  refine xMeth.of (lv0 := [(0, va_rf (some a0))]) G (by decide +kernel) (Or.inl rfl) (Nat.le_of_ble_eq_true rfl) rfl (fun x F hnL hRm hmn ht e1 e2 e3 e4 => ?_)
  have hno : ∀ pc, xNo x pc := fun pc z hz => by rw [ht.1 rfl] at hz; cases hz
  unfold fJ0_isEmpty__J45
  refine xr_aload_n 0 (r := (some a0)) F dJ0_isEmpty_0 rfl ?_
  refine xr_UI (x0 := ⟨"java/util/AbstractCollection", "size", "()I"⟩) (y := yJ45_size) (As := []) (r := (some a0)) F (hno _) dJ0_isEmpty_1 (fun z => fJ45_size_m (xFG F) z) rfl (ci := 33) (C := RJ45) (T := TJ45) rfl q1655 q1653 q1654 q3995 q3991 (Or.inr q835) (xroom hRm (Nat.le_of_ble_eq_true rfl) (Nat.le_of_ble_eq_true rfl)) ⟨by decide, by decide⟩ n_J45_size rfl (xcat (Nat.le_of_ble_eq_true rfl)) (fun v1 => ?_)
  refine xr_if_ne 11 F dJ0_isEmpty_4 rfl ?_ ?_
  · refine xr_iconst (1 : Int32) F dJ0_isEmpty_7 rfl ?_
    refine xr_goto 12 F dJ0_isEmpty_8 rfl ?_
    exact xr_zret F dJ0_isEmpty_12 rfl
  · refine xr_iconst (0 : Int32) F dJ0_isEmpty_11 rfl ?_
    exact xr_zret F dJ0_isEmpty_12 rfl
theorem fJ24_hasNext_m {l : Launch} {D : xD} {s0 : State} {b0 : Nat} {Γ : Nat → Option Nat} (G : xG l D s0 b0 Γ) (a0 : Nat) : xMeth l D s0 Γ yJ24_hasNext (Cond.code yJ24_hasNext cJ24_hasNext 1 (some .boolean)) (1) (12) [.ref a0] xeI (fJ24_hasNext a0) := by
  refine xMeth.of (lv0 := [(0, va_rf (some a0))]) G (by decide +kernel) (Or.inl rfl) (Nat.le_of_ble_eq_true rfl) rfl (fun x F hnL hRm hmn ht e1 e2 e3 e4 => ?_)
  have hno : ∀ pc, xNo x pc := fun pc z hz => by rw [ht.1 rfl] at hz; cases hz
  unfold fJ24_hasNext
  refine xr_aload_n 0 (r := (some a0)) F dJ24_hasNext_0 rfl ?_
  refine xr_gI (r := (some a0)) (ref := "java/util/LinkedList$ListItr") F dJ24_hasNext_1 (C := RJ24) (T := TJ24) (N := 5) rfl (by decide) (Or.inl q808) (Or.inl rfl) (fun v1 => ?_)
  refine xr_aload_n 0 (r := (some a0)) F dJ24_hasNext_4 rfl ?_
  refine xr_gR (r := (some a0)) (ref := "java/util/LinkedList$ListItr") F dJ24_hasNext_5 (C := RJ24) (T := TJ24) (N := 5) rfl (by decide) (Or.inl q810) (Or.inl rfl) (fun v5 => ?_)
  refine xr_gI (r := v5) (ref := "java/util/LinkedList") F dJ24_hasNext_8 (C := RJ19) (T := TJ19) (N := 4) rfl (by decide) (Or.inl q572) (Or.inl rfl) (fun v8 => ?_)
  refine xr_icmp_ge 18 F dJ24_hasNext_11 rfl ?_ ?_
  · refine xr_iconst (0 : Int32) F dJ24_hasNext_18 rfl ?_
    exact xr_zret F dJ24_hasNext_19 rfl
  · refine xr_iconst (1 : Int32) F dJ24_hasNext_14 rfl ?_
    refine xr_goto 19 F dJ24_hasNext_15 rfl ?_
    exact xr_zret F dJ24_hasNext_19 rfl
theorem fJ24_checkForComodification_m {l : Launch} {D : xD} {s0 : State} {b0 : Nat} {Γ : Nat → Option Nat} (G : xG l D s0 b0 Γ) (a0 : Nat) : xMeth l D s0 Γ yJ24_checkForComodification (Cond.code yJ24_checkForComodification cJ24_checkForComodification 1 none) (1) (12) [.ref a0] xeV (fJ24_checkForComodification a0) := by
  refine xMeth.of (lv0 := [(0, va_rf (some a0))]) G (by decide +kernel) (Or.inl rfl) (Nat.le_of_ble_eq_true rfl) rfl (fun x F hnL hRm hmn ht e1 e2 e3 e4 => ?_)
  have hno : ∀ pc, xNo x pc := fun pc z hz => by rw [ht.1 rfl] at hz; cases hz
  unfold fJ24_checkForComodification
  refine xr_aload_n 0 (r := (some a0)) F dJ24_checkForComodification_0 rfl ?_
  refine xr_gR (r := (some a0)) (ref := "java/util/LinkedList$ListItr") F dJ24_checkForComodification_1 (C := RJ24) (T := TJ24) (N := 5) rfl (by decide) (Or.inl q810) (Or.inl rfl) (fun v1 => ?_)
  refine xr_gI (r := v1) (ref := "java/util/LinkedList") F dJ24_checkForComodification_4 (C := RJ19) (T := TJ19) (N := 4) rfl (by decide) (Or.inl q548) (Or.inr q549) (fun v4 => ?_)
  refine xr_aload_n 0 (r := (some a0)) F dJ24_checkForComodification_7 rfl ?_
  refine xr_gI (r := (some a0)) (ref := "java/util/LinkedList$ListItr") F dJ24_checkForComodification_8 (C := RJ24) (T := TJ24) (N := 5) rfl (by decide) (Or.inl q809) (Or.inl rfl) (fun v8 => ?_)
  refine xr_icmp_eq 22 F dJ24_checkForComodification_11 rfl ?_ ?_
  · exact xr_vret F dJ24_checkForComodification_22
  · exact xI.stuck
theorem fJ24_next_m {l : Launch} {D : xD} {s0 : State} {b0 : Nat} {Γ : Nat → Option Nat} (G : xG l D s0 b0 Γ) (a0 : Nat) : xMeth l D s0 Γ yJ24_next (Cond.code yJ24_next cJ24_next 1 (some (.object "java/lang/Object"))) (2) (32) [.ref a0] xeR (fJ24_next a0) := by
  refine xMeth.of (lv0 := [(0, va_rf (some a0))]) G (by decide +kernel) (Or.inl rfl) (Nat.le_of_ble_eq_true rfl) rfl (fun x F hnL hRm hmn ht e1 e2 e3 e4 => ?_)
  have hno : ∀ pc, xNo x pc := fun pc z hz => by rw [ht.1 rfl] at hz; cases hz
  unfold fJ24_next
  refine xr_aload_n 0 (r := (some a0)) F dJ24_next_0 rfl ?_
  refine xr_VV (y := yJ24_checkForComodification) (As := []) (r := (some a0)) F (hno _) dJ24_next_1 (fun z => fJ24_checkForComodification_m (xFG F) z) (Or.inl rfl) (ci := 9) (C := RJ24) (T := TJ24) rfl q1094 q1091 q1092 q1093 (xroom hRm (Nat.le_of_ble_eq_true rfl) (Nat.le_of_ble_eq_true rfl)) ⟨by decide, by decide⟩ n_J24_checkForComodification rfl (xcat (Nat.le_of_ble_eq_true rfl)) (fun _ => ?_)
  refine xr_aload_n 0 (r := (some a0)) F dJ24_next_4 rfl ?_
  refine xr_VI (y := yJ24_hasNext) (As := []) (r := (some a0)) F (hno _) dJ24_next_5 (fun z => fJ24_hasNext_m (xFG F) z) (Or.inl rfl) (ci := 9) (C := RJ24) (T := TJ24) rfl q862 q1095 q860 q3989 (xroom hRm (Nat.le_of_ble_eq_true rfl) (Nat.le_of_ble_eq_true rfl)) ⟨by decide, by decide⟩ n_J24_hasNext rfl (xcat (Nat.le_of_ble_eq_true rfl)) (fun v5 => ?_)
  refine xr_if_ne 19 F dJ24_next_8 rfl ?_ ?_
  · exact xI.stuck
  · refine xr_aload_n 0 (r := (some a0)) F dJ24_next_19 rfl ?_
    refine xr_aload_n 0 (r := (some a0)) F dJ24_next_20 rfl ?_
    refine xr_gR (r := (some a0)) (ref := "java/util/LinkedList$ListItr") F dJ24_next_21 (C := RJ24) (T := TJ24) (N := 5) rfl (by decide) (Or.inl q807) (Or.inl rfl) (fun v21 => ?_)
    refine xr_put (r := (some a0)) (ref := "java/util/LinkedList$ListItr") F dJ24_next_24 xk_9 (by decide) (Or.inl q806) (Or.inl rfl) (Or.inl rfl) (xr_rf _ _) ?_
    refine xr_aload_n 0 (r := (some a0)) F dJ24_next_27 rfl ?_
    refine xr_aload_n 0 (r := (some a0)) F dJ24_next_28 rfl ?_
    refine xr_gR (r := (some a0)) (ref := "java/util/LinkedList$ListItr") F dJ24_next_29 (C := RJ24) (T := TJ24) (N := 5) rfl (by decide) (Or.inl q807) (Or.inl rfl) (fun v29 => ?_)
    refine xr_gR (r := v29) (ref := "java/util/LinkedList$Node") F dJ24_next_32 (C := RJ30) (T := TJ30) (N := 3) rfl (by decide) (Or.inl q2126) (Or.inl rfl) (fun v32 => ?_)
    refine xr_put (r := (some a0)) (ref := "java/util/LinkedList$ListItr") F dJ24_next_35 xk_9 (by decide) (Or.inl q807) (Or.inl rfl) (Or.inl rfl) (xr_rf _ _) ?_
    refine xr_aload_n 0 (r := (some a0)) F dJ24_next_38 rfl ?_
    refine xr_dup F dJ24_next_39 (xrf_cat _) ?_
    refine xr_gI (r := (some a0)) (ref := "java/util/LinkedList$ListItr") F dJ24_next_40 (C := RJ24) (T := TJ24) (N := 5) rfl (by decide) (Or.inl q808) (Or.inl rfl) (fun v40 => ?_)
    refine xr_iconst (1 : Int32) F dJ24_next_43 rfl ?_
    refine xr_iadd F dJ24_next_44 ?_
    refine xr_put (r := (some a0)) (ref := "java/util/LinkedList$ListItr") F dJ24_next_45 xk_9 (by decide) (Or.inl q808) (Or.inl rfl) (Or.inl rfl) ⟨rfl, rfl⟩ ?_
    refine xr_aload_n 0 (r := (some a0)) F dJ24_next_48 rfl ?_
    refine xr_gR (r := (some a0)) (ref := "java/util/LinkedList$ListItr") F dJ24_next_49 (C := RJ24) (T := TJ24) (N := 5) rfl (by decide) (Or.inl q806) (Or.inl rfl) (fun v49 => ?_)
    refine xr_gR (r := v49) (ref := "java/util/LinkedList$Node") F dJ24_next_52 (C := RJ30) (T := TJ30) (N := 3) rfl (by decide) (Or.inl q2123) (Or.inl rfl) (fun v52 => ?_)
    exact xr_aret (v := v52) F dJ24_next_55 (Or.inl ⟨_, rfl⟩)
theorem fJ45_siftUpUsingComparator_p43_ok {x : xC} (F : xF x RJ45 cJ45_siftUpUsingComparator none) (hnL : xnL x = 6) (hRm : ∃ dc ds, x.2.2.2.1 = { frames := 5, cells := dc, slots := ds, locals := 98 }) (hno : ∀ pc, xNo x pc) (hmn : xmn x = "siftUpUsingComparator" ∧ xmy x yJ45_siftUpUsingComparator) (l0 : Int32) (l1 : Option Nat) (l2 : Option Nat) : xI x xeV 43 [(0, .int l0), (1, va_rf l1), (2, va_rf l2)] [] (fJ45_siftUpUsingComparator_p43 l0 l1 l2) := by
  unfold fJ45_siftUpUsingComparator_p43
  refine xr_aload_n 2 (r := l2) F dJ45_siftUpUsingComparator_43 rfl ?_
  refine xr_iload_n 0 F dJ45_siftUpUsingComparator_44 rfl ?_
  refine xr_aload_n 1 (r := l1) F dJ45_siftUpUsingComparator_45 rfl ?_
  refine xr_aast (v := l1) (r := l2) F dJ45_siftUpUsingComparator_46 rfl xokObj_ok ?_
  exact xr_vret F dJ45_siftUpUsingComparator_47
theorem fJ45_siftUpUsingComparator_p0_ok {x : xC} (F : xF x RJ45 cJ45_siftUpUsingComparator none) (hnL : xnL x = 6) (hRm : ∃ dc ds, x.2.2.2.1 = { frames := 5, cells := dc, slots := ds, locals := 98 }) (hno : ∀ pc, xNo x pc) (hmn : xmn x = "siftUpUsingComparator" ∧ xmy x yJ45_siftUpUsingComparator) : ∀ (n : Nat) (l0 : Int32) (l1 : Option Nat) (l2 : Option Nat) (l3 : Option Nat), xI x xeV 0 [(0, .int l0), (1, va_rf l1), (2, va_rf l2), (3, va_rf l3)] [] (fJ45_siftUpUsingComparator_p0 n l0 l1 l2 l3) := by
  intro n
  induction n with
  | zero => intro l0 l1 l2 l3; exact xI.stuck
  | succ n ih =>
    intro l0 l1 l2 l3
    unfold fJ45_siftUpUsingComparator_p0
    refine xr_iload_n 0 F dJ45_siftUpUsingComparator_0 rfl ?_
    refine xr_if_le 43 F dJ45_siftUpUsingComparator_1 rfl ?_ ?_
    · exact xI.sub [0, 1, 2] rfl (fJ45_siftUpUsingComparator_p43_ok F hnL hRm hno hmn l0 l1 l2)
    · refine xr_iload_n 0 F dJ45_siftUpUsingComparator_4 rfl ?_
      refine xr_iconst (1 : Int32) F dJ45_siftUpUsingComparator_5 rfl ?_
      refine xr_isub F dJ45_siftUpUsingComparator_6 ?_
      refine xr_iconst (1 : Int32) F dJ45_siftUpUsingComparator_7 rfl ?_
      refine xr_iushr F dJ45_siftUpUsingComparator_8 ?_
      refine xr_letI (fun x4_9 => ?_)
      refine xs_i [0, 1, 2, 3] F dJ45_siftUpUsingComparator_9 hnL rfl rfl (xk1 rfl rfl (xk1 rfl rfl (xk1 rfl rfl (xk2 rfl (xrf_cat _) xk0)))) ?_
      refine xr_aload_n 3 (r := l2) F dJ45_siftUpUsingComparator_11 rfl ?_
      refine xr_iload 0 F dJ45_siftUpUsingComparator_12 rfl ?_
      refine xr_aald (r := l2) F dJ45_siftUpUsingComparator_14 (fun v14 => ?_)
      refine xs_a [0, 1, 2, 3, 4] F dJ45_siftUpUsingComparator_15 hnL rfl rfl (xk2 rfl rfl (xk1 rfl rfl (xk1 rfl rfl (xk1 rfl rfl (xk1 rfl rfl xk0))))) ?_
      refine xr_aload_n 5 (r := l3) F dJ45_siftUpUsingComparator_17 rfl ?_
      refine xr_aload_n 3 (r := l1) F dJ45_siftUpUsingComparator_18 rfl ?_
      refine xr_aload 0 (r := v14) F dJ45_siftUpUsingComparator_19 rfl ?_
      refine xr_FI (x0 := ⟨"java/util/Comparator", "compare", "(Ljava/lang/Object;Ljava/lang/Object;)I"⟩) (y := yX16_compare) (As := [va_rf l1, va_rf v14]) (r := l3) F (hno _) dJ45_siftUpUsingComparator_21 (fun z => fX16_compare_m (xFG F) z l1 v14) rfl (ci := 34) (C := RX16) (T := TX16) rfl q1343 q2882 q1341 q1339 q1337 q1336 q1342 q1340 q1338 (xroom hRm (Nat.le_of_ble_eq_true rfl) (Nat.le_of_ble_eq_true rfl)) ⟨by decide, by decide⟩ n_X16_compare rfl (xcat (Nat.le_of_ble_eq_true rfl)) (fun v21 => ?_)
      refine xr_if_lt 32 F dJ45_siftUpUsingComparator_26 rfl ?_ ?_
      · refine xr_aload_n 4 (r := l2) F dJ45_siftUpUsingComparator_32 rfl ?_
        refine xr_iload_n 2 F dJ45_siftUpUsingComparator_33 rfl ?_
        refine xr_aload 0 (r := v14) F dJ45_siftUpUsingComparator_34 rfl ?_
        refine xr_aast (v := v14) (r := l2) F dJ45_siftUpUsingComparator_36 rfl xokObj_ok ?_
        refine xr_iload 1 F dJ45_siftUpUsingComparator_37 rfl ?_
        refine xs_i_n [3, 4, 5] F dJ45_siftUpUsingComparator_39 hnL rfl rfl (xk1 rfl rfl (xk1 rfl rfl (xk1 rfl rfl xk0))) ?_
        refine xr_goto 0 F dJ45_siftUpUsingComparator_40 rfl ?_
        exact xI.sub [0, 1, 2, 3] rfl (ih x4_9 l1 l2 l3)
      · refine xr_goto 43 F dJ45_siftUpUsingComparator_29 rfl ?_
        exact xI.sub [2, 3, 4] rfl (fJ45_siftUpUsingComparator_p43_ok F hnL hRm hno hmn l0 l1 l2)
theorem fJ45_siftUpUsingComparator_m {l : Launch} {D : xD} {s0 : State} {b0 : Nat} {Γ : Nat → Option Nat} (G : xG l D s0 b0 Γ) (p0 : Int32) (p1 : Option Nat) (p2 : Option Nat) (p3 : Option Nat) : xMeth l D s0 Γ yJ45_siftUpUsingComparator (Cond.code yJ45_siftUpUsingComparator cJ45_siftUpUsingComparator 6 none) (5) (98) [.int p0, va_rf p1, va_rf p2, va_rf p3] xeV (fJ45_siftUpUsingComparator p0 p1 p2 p3) := by
  refine xMeth.of (lv0 := [(0, .int p0), (1, va_rf p1), (2, va_rf p2), (3, va_rf p3)]) G (by decide +kernel) (Or.inl rfl) (by simp [lg_sl, xrf_cat, xct_i, xct_l, xct_d, xct_r]) (by simp [lv_args, xrf_cat, xct_i, xct_l, xct_d, xct_r, xrf_some]) (fun x F hnL hRm hmn ht e1 e2 e3 e4 => ?_)
  have hno : ∀ pc, xNo x pc := fun pc z hz => by rw [ht.1 rfl] at hz; cases hz
  unfold fJ45_siftUpUsingComparator
  exact xI.sub [0, 1, 2, 3] rfl (fJ45_siftUpUsingComparator_p0_ok F hnL hRm hno hmn xFU p0 p1 p2 p3)
theorem fJ45_siftUp_m {l : Launch} {D : xD} {s0 : State} {b0 : Nat} {Γ : Nat → Option Nat} (G : xG l D s0 b0 Γ) (a0 : Nat) (p0 : Int32) (p1 : Option Nat) : xMeth l D s0 Γ yJ45_siftUp (Cond.code yJ45_siftUp cJ45_siftUp 3 none) (6) (123) [.ref a0, .int p0, va_rf p1] xeV (fJ45_siftUp a0 p0 p1) := by
  refine xMeth.of (lv0 := [(0, va_rf (some a0)), (1, .int p0), (2, va_rf p1)]) G (by decide +kernel) (Or.inl rfl) (by simp [lg_sl, xrf_cat, xct_i, xct_l, xct_d, xct_r]) (by simp [lv_args, xrf_cat, xct_i, xct_l, xct_d, xct_r, xrf_some]) (fun x F hnL hRm hmn ht e1 e2 e3 e4 => ?_)
  have hno : ∀ pc, xNo x pc := fun pc z hz => by rw [ht.1 rfl] at hz; cases hz
  unfold fJ45_siftUp
  refine xr_aload_n 0 (r := (some a0)) F dJ45_siftUp_0 rfl ?_
  refine xr_gR (r := (some a0)) (ref := "java/util/PriorityQueue") F dJ45_siftUp_1 (C := RJ45) (T := TJ45) (N := 4) rfl (by decide) (Or.inl q2839) (Or.inl rfl) (fun v1 => ?_)
  refine xr_ifnull 23 F dJ45_siftUp_4 rfl ?_ ?_
  · refine xr_iload_n 1 F dJ45_siftUp_23 rfl ?_
    refine xr_aload_n 2 (r := p1) F dJ45_siftUp_24 rfl ?_
    refine xr_aload_n 0 (r := (some a0)) F dJ45_siftUp_25 rfl ?_
    refine xr_gR (r := (some a0)) (ref := "java/util/PriorityQueue") F dJ45_siftUp_26 (C := RJ45) (T := TJ45) (N := 4) rfl (by decide) (Or.inl q2836) (Or.inl rfl) (fun v26 => ?_)
    exact xI.stuck
  · refine xr_iload_n 1 F dJ45_siftUp_7 rfl ?_
    refine xr_aload_n 2 (r := p1) F dJ45_siftUp_8 rfl ?_
    refine xr_aload_n 0 (r := (some a0)) F dJ45_siftUp_9 rfl ?_
    refine xr_gR (r := (some a0)) (ref := "java/util/PriorityQueue") F dJ45_siftUp_10 (C := RJ45) (T := TJ45) (N := 4) rfl (by decide) (Or.inl q2836) (Or.inl rfl) (fun v10 => ?_)
    refine xr_aload_n 0 (r := (some a0)) F dJ45_siftUp_13 rfl ?_
    refine xr_gR (r := (some a0)) (ref := "java/util/PriorityQueue") F dJ45_siftUp_14 (C := RJ45) (T := TJ45) (N := 4) rfl (by decide) (Or.inl q2839) (Or.inl rfl) (fun v14 => ?_)
    refine xr_SV (y := yJ45_siftUpUsingComparator) (As := [.int p0, va_rf p1, va_rf v10, va_rf v14]) F (hno _) dJ45_siftUp_17 (fJ45_siftUpUsingComparator_m (xFG F) p0 p1 v10 v14) (Or.inl rfl) q2880 q187 (Or.inl q2878) q2879 (xroom hRm (Nat.le_of_ble_eq_true rfl) (Nat.le_of_ble_eq_true rfl)) ⟨by decide, by decide⟩ n_J45_siftUpUsingComparator rfl (xcat (Nat.le_of_ble_eq_true rfl)) (fun _ => ?_)
    refine xr_goto 32 F dJ45_siftUp_20 rfl ?_
    exact xr_vret F dJ45_siftUp_32
theorem fJ13_copyOf_3_m {l : Launch} {D : xD} {s0 : State} {b0 : Nat} {Γ : Nat → Option Nat} (G : xG l D s0 b0 Γ) (p0 : Option Nat) (p1 : Int32) (p2 : Option Nat) : xMeth l D s0 Γ yJ13_copyOf_3 (Cond.code yJ13_copyOf_3 cJ13_copyOf_3 4 (some (.array (.object "java/lang/Object")))) (2) (60) [va_rf p0, .int p1, va_rf p2] xeR (fJ13_copyOf_3 p0 p1 p2) := by
  refine xMeth.of (lv0 := [(0, va_rf p0), (1, .int p1), (2, va_rf p2)]) G (by decide +kernel) (Or.inl rfl) (by simp [lg_sl, xrf_cat, xct_i, xct_l, xct_d, xct_r]) (by simp [lv_args, xrf_cat, xct_i, xct_l, xct_d, xct_r, xrf_some]) (fun x F hnL hRm hmn ht e1 e2 e3 e4 => ?_)
  have hno : ∀ pc, xNo x pc := fun pc z hz => by rw [ht.1 rfl] at hz; cases hz
  unfold fJ13_copyOf_3
  refine xr_aload_n 2 (r := p2) F dJ13_copyOf_3_0 rfl ?_
  refine xr_ldcM F dJ13_copyOf_3_1 q2104 (fun v1 => ?_)
  refine xr_acmp_ne 13 F dJ13_copyOf_3_3 rfl ?_ ?_
  · refine xr_iload_n 1 F dJ13_copyOf_3_6 rfl ?_
    refine xr_anew F dJ13_copyOf_3_7 rfl q2105 q221 (fun v7 => ?_)
    refine xr_goto 24 F dJ13_copyOf_3_10 rfl ?_
    refine xs_a_n [0, 1] F dJ13_copyOf_3_24 hnL rfl rfl (xk1 rfl rfl (xk1 rfl rfl xk0)) ?_
    refine xr_aload_n 1 (r := p0) F dJ13_copyOf_3_25 rfl ?_
    refine xr_iconst (0 : Int32) F dJ13_copyOf_3_26 rfl ?_
    refine xr_aload_n 0 (r := (some v7)) F dJ13_copyOf_3_27 rfl ?_
    refine xr_iconst (0 : Int32) F dJ13_copyOf_3_28 rfl ?_
    refine xr_aload_n 1 (r := p0) F dJ13_copyOf_3_29 rfl ?_
    refine xr_len (r := p0) F dJ13_copyOf_3_30 (fun v30 => ?_)
    refine xr_iload_n 2 F dJ13_copyOf_3_31 rfl ?_
    refine xr_SI (y := yJ12_min) (As := [.int v30, .int p1]) F (hno _) dJ13_copyOf_3_32 (fJ12_min_m (xFG F) v30 p1) (Or.inl rfl) q345 q135 (Or.inl q343) q344 (xroom hRm (Nat.le_of_ble_eq_true rfl) (Nat.le_of_ble_eq_true rfl)) ⟨by decide, by decide⟩ n_J12_min rfl (xcat (Nat.le_of_ble_eq_true rfl)) (fun v32 => ?_)
    refine xr_cpR (t := 5) (sr := p0) (dr := (some v7)) F dJ13_copyOf_3_35 rfl xokObj_ok q346 q348 q347 q137 (xroom hRm (Nat.le_of_ble_eq_true rfl) (Nat.le_of_ble_eq_true rfl)) (xcat (Nat.le_of_ble_eq_true rfl)) ?_
    refine xr_aload_n 0 (r := (some v7)) F dJ13_copyOf_3_38 rfl ?_
    exact xr_aret (v := (some v7)) F dJ13_copyOf_3_39 (Or.inr ⟨_, rfl⟩)
  · refine xr_aload_n 2 (r := p2) F dJ13_copyOf_3_13 rfl ?_
    exact xI.stuck
theorem fJ13_copyOf_2_m {l : Launch} {D : xD} {s0 : State} {b0 : Nat} {Γ : Nat → Option Nat} (G : xG l D s0 b0 Γ) (p0 : Option Nat) (p1 : Int32) : xMeth l D s0 Γ yJ13_copyOf_2 (Cond.code yJ13_copyOf_2 cJ13_copyOf_2 2 (some (.array (.object "java/lang/Object")))) (3) (83) [va_rf p0, .int p1] xeR (fJ13_copyOf_2 p0 p1) := by
  refine xMeth.of (lv0 := [(0, va_rf p0), (1, .int p1)]) G (by decide +kernel) (Or.inl rfl) (by simp [lg_sl, xrf_cat, xct_i, xct_l, xct_d, xct_r]) (by simp [lv_args, xrf_cat, xct_i, xct_l, xct_d, xct_r, xrf_some]) (fun x F hnL hRm hmn ht e1 e2 e3 e4 => ?_)
  have hno : ∀ pc, xNo x pc := fun pc z hz => by rw [ht.1 rfl] at hz; cases hz
  unfold fJ13_copyOf_2
  refine xr_aload_n 0 (r := p0) F dJ13_copyOf_2_0 rfl ?_
  refine xr_iload_n 1 F dJ13_copyOf_2_1 rfl ?_
  refine xr_aload_n 0 (r := p0) F dJ13_copyOf_2_2 rfl ?_
  refine xr_gcO (r := p0) F dJ13_copyOf_2_3 q2100 q4080 q4079 q956 q1017 (xroom hRm (Nat.le_of_ble_eq_true rfl) (Nat.le_of_ble_eq_true rfl)) (xcat (Nat.le_of_ble_eq_true rfl)) (fun v3 => ?_)
  refine xr_SR (y := yJ13_copyOf_3) (As := [va_rf p0, .int p1, va_rf v3]) F (hno _) dJ13_copyOf_2_6 (fJ13_copyOf_3_m (xFG F) p0 p1 v3) (Or.inl rfl) q2103 q136 (Or.inl q2101) q2102 (xroom hRm (Nat.le_of_ble_eq_true rfl) (Nat.le_of_ble_eq_true rfl)) ⟨by decide, by decide⟩ n_J13_copyOf_3 rfl (xcat (Nat.le_of_ble_eq_true rfl)) (fun v6 => ?_)
  exact xr_aret (v := v6) F dJ13_copyOf_2_9 (Or.inr ⟨_, rfl⟩)
theorem fJ45_grow_p25_ok {x : xC} (F : xF x RJ45 cJ45_grow none) (hnL : xnL x = 4) (hRm : ∃ dc ds, x.2.2.2.1 = { frames := 4, cells := dc, slots := ds, locals := 104 }) (hno : ∀ pc, xNo x pc) (hmn : xmn x = "grow" ∧ xmy x yJ45_grow) (l0 : Nat) (s0 : Int32) (s1 : Int32) (s2 : Int32) : xI x xeV 25 [(0, va_rf (some l0))] [.int s0, .int s1, .int s2] (fJ45_grow_p25 l0 s0 s1 s2) := by
  unfold fJ45_grow_p25
  refine xr_SI (y := yJ11_newLength) (As := [.int s2, .int s1, .int s0]) F (hno _) dJ45_grow_25 (fJ11_newLength_m (xFG F) s2 s1 s0) (Or.inl rfl) q324 q134 (Or.inl q2872) q323 (xroom hRm (Nat.le_of_ble_eq_true rfl) (Nat.le_of_ble_eq_true rfl)) ⟨by decide, by decide⟩ n_J11_newLength rfl (xcat (Nat.le_of_ble_eq_true rfl)) (fun v25 => ?_)
  refine xs_i_n [0] F dJ45_grow_28 hnL rfl rfl (xk1 rfl rfl xk0) ?_
  refine xr_aload_n 1 (r := (some l0)) F dJ45_grow_29 rfl ?_
  refine xr_aload_n 1 (r := (some l0)) F dJ45_grow_30 rfl ?_
  refine xr_gR (r := (some l0)) (ref := "java/util/PriorityQueue") F dJ45_grow_31 (C := RJ45) (T := TJ45) (N := 4) rfl (by decide) (Or.inl q2836) (Or.inl rfl) (fun v31 => ?_)
  refine xr_iload_n 0 F dJ45_grow_34 rfl ?_
  refine xr_SR (y := yJ13_copyOf_2) (As := [va_rf v31, .int v25]) F (hno _) dJ45_grow_35 (fJ13_copyOf_2_m (xFG F) v31 v25) (Or.inl rfl) q2099 q136 (Or.inl q2873) q2098 (xroom hRm (Nat.le_of_ble_eq_true rfl) (Nat.le_of_ble_eq_true rfl)) ⟨by decide, by decide⟩ n_J13_copyOf_2 rfl (xcat (Nat.le_of_ble_eq_true rfl)) (fun v35 => ?_)
  refine xr_put (r := (some l0)) (ref := "java/util/PriorityQueue") F dJ45_grow_38 xk_33 (by decide) (Or.inl q2836) (Or.inl rfl) (Or.inl rfl) (xr_rfa _ _) ?_
  exact xr_vret F dJ45_grow_41
theorem fJ45_grow_m {l : Launch} {D : xD} {s0 : State} {b0 : Nat} {Γ : Nat → Option Nat} (G : xG l D s0 b0 Γ) (a0 : Nat) (p0 : Int32) : xMeth l D s0 Γ yJ45_grow (Cond.code yJ45_grow cJ45_grow 4 none) (4) (104) [.ref a0, .int p0] xeV (fJ45_grow a0 p0) := by
  refine xMeth.of (lv0 := [(0, va_rf (some a0)), (1, .int p0)]) G (by decide +kernel) (Or.inl rfl) (Nat.le_of_ble_eq_true rfl) rfl (fun x F hnL hRm hmn ht e1 e2 e3 e4 => ?_)
  have hno : ∀ pc, xNo x pc := fun pc z hz => by rw [ht.1 rfl] at hz; cases hz
  unfold fJ45_grow
  refine xr_aload_n 0 (r := (some a0)) F dJ45_grow_0 rfl ?_
  refine xr_gR (r := (some a0)) (ref := "java/util/PriorityQueue") F dJ45_grow_1 (C := RJ45) (T := TJ45) (N := 4) rfl (by decide) (Or.inl q2836) (Or.inl rfl) (fun v1 => ?_)
  refine xr_len (r := v1) F dJ45_grow_4 (fun v4 => ?_)
  refine xs_i_n [0, 1] F dJ45_grow_5 hnL rfl rfl (xk1 rfl rfl (xk2 rfl rfl xk0)) ?_
  refine xr_iload_n 0 F dJ45_grow_6 rfl ?_
  refine xr_iload_n 2 F dJ45_grow_7 rfl ?_
  refine xr_iload_n 0 F dJ45_grow_8 rfl ?_
  refine xr_isub F dJ45_grow_9 ?_
  refine xr_iload_n 0 F dJ45_grow_10 rfl ?_
  refine xr_bipush (64 : Int32) F dJ45_grow_11 rfl ?_
  refine xr_icmp_ge 22 F dJ45_grow_13 rfl ?_ ?_
  · refine xr_iload_n 0 F dJ45_grow_22 rfl ?_
    refine xr_iconst (1 : Int32) F dJ45_grow_23 rfl ?_
    refine xr_ishr F dJ45_grow_24 ?_
    exact xI.sub [1] rfl (fJ45_grow_p25_ok F hnL hRm hno hmn a0 (v4 >>> ((1 : Int32) &&& 31)) (p0 - v4) v4)
  · refine xr_iload_n 0 F dJ45_grow_16 rfl ?_
    refine xr_iconst (2 : Int32) F dJ45_grow_17 rfl ?_
    refine xr_iadd F dJ45_grow_18 ?_
    refine xr_goto 25 F dJ45_grow_19 rfl ?_
    exact xI.sub [1] rfl (fJ45_grow_p25_ok F hnL hRm hno hmn a0 (v4 + (2 : Int32)) (p0 - v4) v4)
theorem fJ45_offer_p43_ok {x : xC} (F : xF x RJ45 cJ45_offer (some .boolean)) (hnL : xnL x = 3) (hRm : ∃ dc ds, x.2.2.2.1 = { frames := 7, cells := dc, slots := ds, locals := 145 }) (hno : ∀ pc, xNo x pc) (hmn : xmn x = "offer" ∧ xmy x yJ45_offer) (l0 : Nat) (l1 : Option Nat) (l2 : Int32) : xI x xeI 43 [(0, va_rf (some l0)), (1, va_rf l1), (2, .int l2)] [] (fJ45_offer_p43 l0 l1 l2) := by
  unfold fJ45_offer_p43
  refine xr_aload_n 0 (r := (some l0)) F dJ45_offer_43 rfl ?_
  refine xr_iload_n 2 F dJ45_offer_44 rfl ?_
  refine xr_aload_n 1 (r := l1) F dJ45_offer_45 rfl ?_
  refine xr_VV (y := yJ45_siftUp) (As := [.int l2, va_rf l1]) (r := (some l0)) F (hno _) dJ45_offer_46 (fun z => fJ45_siftUp_m (xFG F) z l2 l1) (Or.inl rfl) (ci := 33) (C := RJ45) (T := TJ45) rfl q2877 q2874 q2876 qs39 (xroom hRm (Nat.le_of_ble_eq_true rfl) (Nat.le_of_ble_eq_true rfl)) ⟨by decide, by decide⟩ n_J45_siftUp rfl (xcat (Nat.le_of_ble_eq_true rfl)) (fun _ => ?_)
  refine xr_aload_n 0 (r := (some l0)) F dJ45_offer_49 rfl ?_
  refine xr_iload_n 2 F dJ45_offer_50 rfl ?_
  refine xr_iconst (1 : Int32) F dJ45_offer_51 rfl ?_
  refine xr_iadd F dJ45_offer_52 ?_
  refine xr_put (r := (some l0)) (ref := "java/util/PriorityQueue") F dJ45_offer_53 xk_33 (by decide) (Or.inl q2838) (Or.inl rfl) (Or.inl rfl) ⟨rfl, rfl⟩ ?_
  refine xr_iconst (1 : Int32) F dJ45_offer_56 rfl ?_
  exact xr_zret F dJ45_offer_57 rfl
theorem fJ45_offer_m {l : Launch} {D : xD} {s0 : State} {b0 : Nat} {Γ : Nat → Option Nat} (G : xG l D s0 b0 Γ) (a0 : Nat) (p0 : Option Nat) : xMeth l D s0 Γ yJ45_offer (Cond.code yJ45_offer cJ45_offer 3 (some .boolean)) (7) (145) [.ref a0, va_rf p0] xeI (fJ45_offer a0 p0) := by
  refine xMeth.of (lv0 := [(0, va_rf (some a0)), (1, va_rf p0)]) G (by decide +kernel) (Or.inl rfl) (by simp [lg_sl, xrf_cat, xct_i, xct_l, xct_d, xct_r]) (by simp [lv_args, xrf_cat, xct_i, xct_l, xct_d, xct_r, xrf_some]) (fun x F hnL hRm hmn ht e1 e2 e3 e4 => ?_)
  have hno : ∀ pc, xNo x pc := fun pc z hz => by rw [ht.1 rfl] at hz; cases hz
  unfold fJ45_offer
  refine xr_aload_n 1 (r := p0) F dJ45_offer_0 rfl ?_
  refine xr_ifnonnull 12 F dJ45_offer_1 rfl ?_ ?_
  · exact xI.stuck
  · refine xr_aload_n 0 (r := (some a0)) F dJ45_offer_12 rfl ?_
    refine xr_dup F dJ45_offer_13 (xrf_cat _) ?_
    refine xr_gI (r := (some a0)) (ref := "java/util/PriorityQueue") F dJ45_offer_14 (C := RJ45) (T := TJ45) (N := 4) rfl (by decide) (Or.inl q2841) (Or.inl rfl) (fun v14 => ?_)
    refine xr_iconst (1 : Int32) F dJ45_offer_17 rfl ?_
    refine xr_iadd F dJ45_offer_18 ?_
    refine xr_put (r := (some a0)) (ref := "java/util/PriorityQueue") F dJ45_offer_19 xk_33 (by decide) (Or.inl q2841) (Or.inl rfl) (Or.inl rfl) ⟨rfl, rfl⟩ ?_
    refine xr_aload_n 0 (r := (some a0)) F dJ45_offer_22 rfl ?_
    refine xr_gI (r := (some a0)) (ref := "java/util/PriorityQueue") F dJ45_offer_23 (C := RJ45) (T := TJ45) (N := 4) rfl (by decide) (Or.inl q2838) (Or.inl rfl) (fun v23 => ?_)
    refine xs_i_n [0, 1] F dJ45_offer_26 hnL rfl rfl (xk1 rfl rfl (xk2 rfl (xrf_cat _) xk0)) ?_
    refine xr_iload_n 0 F dJ45_offer_27 rfl ?_
    refine xr_aload_n 1 (r := (some a0)) F dJ45_offer_28 rfl ?_
    refine xr_gR (r := (some a0)) (ref := "java/util/PriorityQueue") F dJ45_offer_29 (C := RJ45) (T := TJ45) (N := 4) rfl (by decide) (Or.inl q2836) (Or.inl rfl) (fun v29 => ?_)
    refine xr_len (r := v29) F dJ45_offer_32 (fun v32 => ?_)
    refine xr_icmp_lt 43 F dJ45_offer_33 rfl ?_ ?_
    · exact xI.sub [1, 2, 0] rfl (fJ45_offer_p43_ok F hnL hRm hno hmn a0 p0 v23)
    · refine xr_aload_n 1 (r := (some a0)) F dJ45_offer_36 rfl ?_
      refine xr_iload_n 0 F dJ45_offer_37 rfl ?_
      refine xr_iconst (1 : Int32) F dJ45_offer_38 rfl ?_
      refine xr_iadd F dJ45_offer_39 ?_
      refine xr_VV (y := yJ45_grow) (As := [.int (v23 + (1 : Int32))]) (r := (some a0)) F (hno _) dJ45_offer_40 (fun z => fJ45_grow_m (xFG F) z (v23 + (1 : Int32))) (Or.inl rfl) (ci := 33) (C := RJ45) (T := TJ45) rfl q2871 q2868 q2870 qs38 (xroom hRm (Nat.le_of_ble_eq_true rfl) (Nat.le_of_ble_eq_true rfl)) ⟨by decide, by decide⟩ n_J45_grow rfl (xcat (Nat.le_of_ble_eq_true rfl)) (fun _ => ?_)
      exact xI.sub [1, 2, 0] rfl (fJ45_offer_p43_ok F hnL hRm hno hmn a0 p0 v23)
theorem fJ45_add_m {l : Launch} {D : xD} {s0 : State} {b0 : Nat} {Γ : Nat → Option Nat} (G : xG l D s0 b0 Γ) (a0 : Nat) (p0 : Option Nat) : xMeth l D s0 Γ yJ45_add (Cond.code yJ45_add cJ45_add 2 (some .boolean)) (8) (167) [.ref a0, va_rf p0] xeI (fJ45_add a0 p0) := by
  refine xMeth.of (lv0 := [(0, va_rf (some a0)), (1, va_rf p0)]) G (by decide +kernel) (Or.inl rfl) (by simp [lg_sl, xrf_cat, xct_i, xct_l, xct_d, xct_r]) (by simp [lv_args, xrf_cat, xct_i, xct_l, xct_d, xct_r, xrf_some]) (fun x F hnL hRm hmn ht e1 e2 e3 e4 => ?_)
  have hno : ∀ pc, xNo x pc := fun pc z hz => by rw [ht.1 rfl] at hz; cases hz
  unfold fJ45_add
  refine xr_aload_n 0 (r := (some a0)) F dJ45_add_0 rfl ?_
  refine xr_aload_n 1 (r := p0) F dJ45_add_1 rfl ?_
  refine xr_VI (y := yJ45_offer) (As := [va_rf p0]) (r := (some a0)) F (hno _) dJ45_add_2 (fun z => fJ45_offer_m (xFG F) z p0) (Or.inl rfl) (ci := 33) (C := RJ45) (T := TJ45) rfl q2867 q2864 q2865 q2866 (xroom hRm (Nat.le_of_ble_eq_true rfl) (Nat.le_of_ble_eq_true rfl)) ⟨by decide, by decide⟩ n_J45_offer rfl (xcat (Nat.le_of_ble_eq_true rfl)) (fun v2 => ?_)
  exact xr_nret F dJ45_add_5
theorem fX16_init_m {l : Launch} {D : xD} {s0 : State} {b0 : Nat} {Γ : Nat → Option Nat} (G : xG l D s0 b0 Γ) (a0 : Nat) : xMeth l D s0 Γ yX16_init (Cond.code yX16_init cX16_init 1 none) (1) (20) [.ref a0] xeV (fX16_init a0) := by
  refine xMeth.of (lv0 := [(0, va_rf (some a0))]) G (by decide +kernel) (Or.inl rfl) (Nat.le_of_ble_eq_true rfl) rfl (fun x F hnL hRm hmn ht e1 e2 e3 e4 => ?_)
  have hno : ∀ pc, xNo x pc := fun pc z hz => by rw [ht.1 rfl] at hz; cases hz
  unfold fX16_init
  refine xr_aload_n 0 (r := (some a0)) F dX16_init_0 rfl ?_
  refine xr_obj F dX16_init_1 q2823 q200 (q_objcode) (xroom hRm (Nat.le_of_ble_eq_true rfl) (Nat.le_of_ble_eq_true rfl)) (xcat (Nat.le_of_ble_eq_true rfl)) ?_
  exact xr_vret F dX16_init_4
theorem fJ0_init__J45_m {l : Launch} {D : xD} {s0 : State} {b0 : Nat} {Γ : Nat → Option Nat} (G : xG l D s0 b0 Γ) (a0 : Nat) : xMeth l D s0 Γ yJ0_init (Cond.code yJ0_init cJ0_init 1 none) (1) (20) [.ref a0] xeV (fJ0_init__J45 a0) := by
  refine xMeth.of (lv0 := [(0, va_rf (some a0))]) G (by decide +kernel) (Or.inl rfl) (Nat.le_of_ble_eq_true rfl) rfl (fun x F hnL hRm hmn ht e1 e2 e3 e4 => ?_)
  have hno : ∀ pc, xNo x pc := fun pc z hz => by rw [ht.1 rfl] at hz; cases hz
  unfold fJ0_init__J45
  refine xr_aload_n 0 (r := (some a0)) F dJ0_init_0 rfl ?_
  refine xr_obj F dJ0_init_1 q219 q200 (q_objcode) (xroom hRm (Nat.le_of_ble_eq_true rfl) (Nat.le_of_ble_eq_true rfl)) (xcat (Nat.le_of_ble_eq_true rfl)) ?_
  exact xr_vret F dJ0_init_4
theorem fJ44_init__J45_m {l : Launch} {D : xD} {s0 : State} {b0 : Nat} {Γ : Nat → Option Nat} (G : xG l D s0 b0 Γ) (a0 : Nat) : xMeth l D s0 Γ yJ44_init (Cond.code yJ44_init cJ44_init 1 none) (2) (40) [.ref a0] xeV (fJ44_init__J45 a0) := by
  refine xMeth.of (lv0 := [(0, va_rf (some a0))]) G (by decide +kernel) (Or.inl rfl) (Nat.le_of_ble_eq_true rfl) rfl (fun x F hnL hRm hmn ht e1 e2 e3 e4 => ?_)
  have hno : ∀ pc, xNo x pc := fun pc z hz => by rw [ht.1 rfl] at hz; cases hz
  unfold fJ44_init__J45
  refine xr_aload_n 0 (r := (some a0)) F dJ44_init_0 rfl ?_
  refine xr_IV (y := yJ0_init) (As := []) F (hno _) dJ44_init_1 (fJ0_init__J45_m (xFG F) a0) rfl rfl q218 (Or.inl q2831) q217 (xroom hRm (Nat.le_of_ble_eq_true rfl) (Nat.le_of_ble_eq_true rfl)) ⟨by decide, by decide⟩ n_J0_init rfl (xcat (Nat.le_of_ble_eq_true rfl)) (fun _ => ?_)
  exact xr_vret F dJ44_init_4
theorem fJ45_init_m {l : Launch} {D : xD} {s0 : State} {b0 : Nat} {Γ : Nat → Option Nat} (G : xG l D s0 b0 Γ) (a0 : Nat) (p0 : Int32) (p1 : Option Nat) : xMeth l D s0 Γ yJ45_init (Cond.code yJ45_init cJ45_init 3 none) (3) (60) [.ref a0, .int p0, va_rf p1] xeV (fJ45_init a0 p0 p1) := by
  refine xMeth.of (lv0 := [(0, va_rf (some a0)), (1, .int p0), (2, va_rf p1)]) G (by decide +kernel) (Or.inl rfl) (by simp [lg_sl, xrf_cat, xct_i, xct_l, xct_d, xct_r]) (by simp [lv_args, xrf_cat, xct_i, xct_l, xct_d, xct_r, xrf_some]) (fun x F hnL hRm hmn ht e1 e2 e3 e4 => ?_)
  have hno : ∀ pc, xNo x pc := fun pc z hz => by rw [ht.1 rfl] at hz; cases hz
  unfold fJ45_init
  refine xr_aload_n 0 (r := (some a0)) F dJ45_init_0 rfl ?_
  refine xr_IV (y := yJ44_init) (As := []) F (hno _) dJ45_init_1 (fJ44_init__J45_m (xFG F) a0) rfl rfl q2830 (Or.inl q2828) q2829 (xroom hRm (Nat.le_of_ble_eq_true rfl) (Nat.le_of_ble_eq_true rfl)) ⟨by decide, by decide⟩ n_J44_init rfl (xcat (Nat.le_of_ble_eq_true rfl)) (fun _ => ?_)
  refine xr_iload_n 1 F dJ45_init_4 rfl ?_
  refine xr_iconst (1 : Int32) F dJ45_init_5 rfl ?_
  refine xr_icmp_ge 17 F dJ45_init_6 rfl ?_ ?_
  · refine xr_aload_n 0 (r := (some a0)) F dJ45_init_17 rfl ?_
    refine xr_iload_n 1 F dJ45_init_18 rfl ?_
    refine xr_anew F dJ45_init_19 rfl q2834 q221 (fun v19 => ?_)
    refine xr_put (r := (some a0)) (ref := "java/util/PriorityQueue") F dJ45_init_22 xk_33 (by decide) (Or.inl q2836) (Or.inl rfl) (Or.inl rfl) (xr_rfa _ _) ?_
    refine xr_aload_n 0 (r := (some a0)) F dJ45_init_25 rfl ?_
    refine xr_aload_n 2 (r := p1) F dJ45_init_26 rfl ?_
    refine xr_put (r := (some a0)) (ref := "java/util/PriorityQueue") F dJ45_init_27 xk_33 (by decide) (Or.inl q2839) (Or.inl rfl) (Or.inr ⟨rfl, hmn.1, rfl, q2839⟩) (xr_rf _ _) ?_
    exact xr_vret F dJ45_init_30
  · exact xI.stuck
theorem fX2_queue_p25_ok {x : xC} (F : xF x RX2 cX2_queue (some (.object "java/util/PriorityQueue"))) (hnL : xnL x = 5) (hRm : ∃ dc ds, x.2.2.2.1 = { frames := 9, cells := dc, slots := ds, locals := 188 }) (hno : ∀ pc, xNo x pc) (hmn : xmn x = "queue" ∧ xmy x yX2_queue) : ∀ (n : Nat) (l1 : Nat) (l2 : Option Nat), xI x xeR 25 [(1, va_rf (some l1)), (2, va_rf l2)] [] (fX2_queue_p25 n l1 l2) := by
  intro n
  induction n with
  | zero => intro l1 l2; exact xI.stuck
  | succ n ih =>
    intro l1 l2
    unfold fX2_queue_p25
    refine xr_aload_n 1 (r := l2) F dX2_queue_25 rfl ?_
    refine xr_FI (x0 := ⟨"java/util/Iterator", "hasNext", "()Z"⟩) (y := yJ24_hasNext) (As := []) (r := l2) F (hno _) dX2_queue_26 (fun z => fJ24_hasNext_m (xFG F) z) rfl (ci := 9) (C := RJ24) (T := TJ24) rfl q862 q2856 q860 q858 q826 q825 q861 q859 q857 (xroom hRm (Nat.le_of_ble_eq_true rfl) (Nat.le_of_ble_eq_true rfl)) ⟨by decide, by decide⟩ n_J24_hasNext rfl (xcat (Nat.le_of_ble_eq_true rfl)) (fun v26 => ?_)
    refine xr_if_eq 54 F dX2_queue_31 rfl ?_ ?_
    · refine xr_aload_n 0 (r := (some l1)) F dX2_queue_54 rfl ?_
      exact xr_aret (v := (some l1)) F dX2_queue_55 (Or.inl ⟨_, rfl⟩)
    · refine xr_aload_n 1 (r := l2) F dX2_queue_34 rfl ?_
      refine xr_FR (x0 := ⟨"java/util/Iterator", "next", "()Ljava/lang/Object;"⟩) (y := yJ24_next) (As := []) (r := l2) F (hno _) dX2_queue_35 (fun z => fJ24_next_m (xFG F) z) rfl (ci := 9) (C := RJ24) (T := TJ24) rfl q1090 q2858 q1088 q1086 q885 q884 q1089 q1087 q857 (xroom hRm (Nat.le_of_ble_eq_true rfl) (Nat.le_of_ble_eq_true rfl)) ⟨by decide, by decide⟩ n_J24_next rfl (xcat (Nat.le_of_ble_eq_true rfl)) (fun v35 => ?_)
      refine xr_castE (ci := 38) (r := v35) F dX2_queue_40 q2859 rfl ?_
      refine xs_a_n [0, 1] F dX2_queue_43 hnL rfl rfl (xk1 rfl rfl (xk2 rfl (xrf_cat _) xk0)) ?_
      refine xr_aload_n 1 (r := (some l1)) F dX2_queue_44 rfl ?_
      refine xr_aload_n 0 (r := v35) F dX2_queue_45 rfl ?_
      refine xr_VI (y := yJ45_add) (As := [va_rf v35]) (r := (some l1)) F (hno _) dX2_queue_46 (fun z => fJ45_add_m (xFG F) z v35) (Or.inl rfl) (ci := 33) (C := RJ45) (T := TJ45) rfl q2863 q2860 q2861 q2862 (xroom hRm (Nat.le_of_ble_eq_true rfl) (Nat.le_of_ble_eq_true rfl)) ⟨by decide, by decide⟩ n_J45_add rfl (xcat (Nat.le_of_ble_eq_true rfl)) (fun v46 => ?_)
      refine xs_i [1, 2] F dX2_queue_49 hnL rfl rfl (xk1 rfl rfl (xk1 rfl rfl xk0)) ?_
      refine xr_goto 25 F dX2_queue_51 rfl ?_
      exact xI.sub [1, 2] rfl (ih l1 l2)
theorem fX2_queue_m {l : Launch} {D : xD} {s0 : State} {b0 : Nat} {Γ : Nat → Option Nat} (G : xG l D s0 b0 Γ) (a0 : Nat) : xMeth l D s0 Γ yX2_queue (Cond.code yX2_queue cX2_queue 5 (some (.object "java/util/PriorityQueue"))) (9) (188) [.ref a0] xeR (fX2_queue a0) := by
  refine xMeth.of (lv0 := [(0, va_rf (some a0))]) G (by decide +kernel) (Or.inl rfl) (Nat.le_of_ble_eq_true rfl) rfl (fun x F hnL hRm hmn ht e1 e2 e3 e4 => ?_)
  have hno : ∀ pc, xNo x pc := fun pc z hz => by rw [ht.1 rfl] at hz; cases hz
  unfold fX2_queue
  refine xr_new F dX2_queue_0 xk_33 xdf_33 q2816 q2817 q187 (fun v0 => ?_)
  refine xr_dup F dX2_queue_3 (xrf_cat _) ?_
  refine xr_bipush (12 : Int32) F dX2_queue_4 rfl ?_
  refine xr_new F dX2_queue_6 xk_34 (fun j hj => absurd hj (Nat.not_lt_zero j)) q2818 q2819 q188 (fun v6 => ?_)
  refine xr_dup F dX2_queue_9 (xrf_cat _) ?_
  refine xr_IV (y := yX16_init) (As := []) F (hno _) dX2_queue_10 (fX16_init_m (xFG F) v6) rfl rfl q2822 (Or.inr ⟨_, q2820⟩) q2821 (xroom hRm (Nat.le_of_ble_eq_true rfl) (Nat.le_of_ble_eq_true rfl)) ⟨by decide, by decide⟩ n_X16_init rfl (xcat (Nat.le_of_ble_eq_true rfl)) (fun _ => ?_)
  refine xr_IV (y := yJ45_init) (As := [.int (12 : Int32), va_rf (some v6)]) F (hno _) dX2_queue_13 (fJ45_init_m (xFG F) v0 (12 : Int32) (some v6)) rfl rfl q2827 (Or.inl q2825) q2826 (xroom hRm (Nat.le_of_ble_eq_true rfl) (Nat.le_of_ble_eq_true rfl)) ⟨by decide, by decide⟩ n_J45_init rfl (xcat (Nat.le_of_ble_eq_true rfl)) (fun _ => ?_)
  refine xs_a_n [0] F dX2_queue_16 hnL rfl rfl (xk2 rfl (xrf_cat _) xk0) ?_
  refine xr_aload_n 1 (r := (some a0)) F dX2_queue_17 rfl ?_
  refine xr_gR (r := (some a0)) (ref := "ReserveLedger$State") F dX2_queue_18 (C := RX2) (T := TX2) (N := 5) rfl (by decide) (Or.inl q586) (Or.inl rfl) (fun v18 => ?_)
  refine xr_UR (x0 := ⟨"java/util/LinkedList", "iterator", "()Ljava/util/Iterator;"⟩) (y := yJ18_iterator) (As := []) (r := v18) F (hno _) dX2_queue_21 (fun z => fJ18_iterator__J19_m (xFG F) z) rfl (ci := 6) (C := RJ19) (T := TJ19) rfl q720 q2851 q718 q2854 q2852 (Or.inr q2853) (xroom hRm (Nat.le_of_ble_eq_true rfl) (Nat.le_of_ble_eq_true rfl)) ⟨by decide, by decide⟩ n_J18_iterator rfl (xcat (Nat.le_of_ble_eq_true rfl)) (fun v21 => ?_)
  refine xs_a_n [0] F dX2_queue_24 hnL rfl rfl (xk2 rfl (xrf_cat _) xk0) ?_
  exact xI.sub [1, 0] rfl (fX2_queue_p25_ok F hnL hRm hno hmn xFU v0 v21)
theorem fX2_planAt_p33_ok {x : xC} (F : xF x RX2 cX2_planAt (some (.object "ReserveLedger$Plan"))) (hnL : xnL x = 5) (hRm : ∃ dc ds, x.2.2.2.1 = { frames := 10, cells := dc, slots := ds, locals := 212 }) (hno : ∀ pc, xNo x pc) (hmn : xmn x = "planAt" ∧ xmy x yX2_planAt) (l1 : Int32) (l2 : Option Nat) : xI x xeR 33 [(1, .int l1), (2, va_rf l2)] [] (fX2_planAt_p33 l1 l2) := by
  unfold fX2_planAt_p33
  refine xr_iload_n 0 F dX2_planAt_33 rfl ?_
  refine xr_if_ge 41 F dX2_planAt_34 rfl ?_ ?_
  · refine xr_aload_n 1 (r := l2) F dX2_planAt_41 rfl ?_
    refine xr_VR (y := yJ45_poll) (As := []) (r := l2) F (hno _) dX2_planAt_42 (fun z => fJ45_poll_m (xFG F) z) (Or.inl rfl) (ci := 33) (C := RJ45) (T := TJ45) rfl q2895 q2892 q2893 q2894 (xroom hRm (Nat.le_of_ble_eq_true rfl) (Nat.le_of_ble_eq_true rfl)) ⟨by decide, by decide⟩ n_J45_poll rfl (xcat (Nat.le_of_ble_eq_true rfl)) (fun v42 => ?_)
    refine xr_castE (ci := 38) (r := v42) F dX2_planAt_45 q2859 rfl ?_
    exact xr_aret (v := v42) F dX2_planAt_48 (Or.inl ⟨_, rfl⟩)
  · refine xr_null F dX2_planAt_37 ?_
    refine xr_goto 48 F dX2_planAt_38 rfl ?_
    exact xr_aret (v := none) F dX2_planAt_48 (Or.inl ⟨_, rfl⟩)
theorem fX2_planAt_p7_ok {x : xC} (F : xF x RX2 cX2_planAt (some (.object "ReserveLedger$Plan"))) (hnL : xnL x = 5) (hRm : ∃ dc ds, x.2.2.2.1 = { frames := 10, cells := dc, slots := ds, locals := 212 }) (hno : ∀ pc, xNo x pc) (hmn : xmn x = "planAt" ∧ xmy x yX2_planAt) : ∀ (n : Nat) (l1 : Int32) (l2 : Option Nat) (l3 : Int32), xI x xeR 7 [(1, .int l1), (2, va_rf l2), (3, .int l3)] [] (fX2_planAt_p7 n l1 l2 l3) := by
  intro n
  induction n with
  | zero => intro l1 l2 l3; exact xI.stuck
  | succ n ih =>
    intro l1 l2 l3
    unfold fX2_planAt_p7
    refine xr_iload_n 2 F dX2_planAt_7 rfl ?_
    refine xr_if_le 33 F dX2_planAt_8 rfl ?_ ?_
    · exact xI.sub [0, 1] rfl (fX2_planAt_p33_ok F hnL hRm hno hmn l1 l2)
    · refine xr_aload_n 1 (r := l2) F dX2_planAt_11 rfl ?_
      refine xr_UI (x0 := ⟨"java/util/PriorityQueue", "isEmpty", "()Z"⟩) (y := yJ0_isEmpty) (As := []) (r := l2) F (hno _) dX2_planAt_12 (fun z => fJ0_isEmpty__J45_m (xFG F) z) rfl (ci := 33) (C := RJ45) (T := TJ45) rfl q1652 q2889 q1651 q2891 q2890 (Or.inr q1649) (xroom hRm (Nat.le_of_ble_eq_true rfl) (Nat.le_of_ble_eq_true rfl)) ⟨by decide, by decide⟩ n_J0_isEmpty rfl (xcat (Nat.le_of_ble_eq_true rfl)) (fun v12 => ?_)
      refine xr_if_ne 33 F dX2_planAt_15 rfl ?_ ?_
      · refine xr_aload_n 1 (r := l2) F dX2_planAt_18 rfl ?_
        refine xr_VR (y := yJ45_poll) (As := []) (r := l2) F (hno _) dX2_planAt_19 (fun z => fJ45_poll_m (xFG F) z) (Or.inl rfl) (ci := 33) (C := RJ45) (T := TJ45) rfl q2895 q2892 q2893 q2894 (xroom hRm (Nat.le_of_ble_eq_true rfl) (Nat.le_of_ble_eq_true rfl)) ⟨by decide, by decide⟩ n_J45_poll rfl (xcat (Nat.le_of_ble_eq_true rfl)) (fun v19 => ?_)
        refine xr_castE (ci := 38) (r := v19) F dX2_planAt_22 q2859 rfl ?_
        refine xs_a [0, 1, 2] F dX2_planAt_25 hnL rfl rfl (xk1 rfl rfl (xk1 rfl rfl (xk2 rfl rfl xk0))) ?_
        refine xs_inc [3, 1, 2] F dX2_planAt_27 rfl hnL rfl rfl (xk1 rfl rfl (xk2 rfl (xrf_cat _) xk0)) (fun x3_27 => ?_)
        refine xr_goto 7 F dX2_planAt_30 rfl ?_
        exact xI.sub [1, 2, 0] rfl (ih l1 l2 x3_27)
      · exact xI.sub [0, 1] rfl (fX2_planAt_p33_ok F hnL hRm hno hmn l1 l2)
theorem fX2_planAt_m {l : Launch} {D : xD} {s0 : State} {b0 : Nat} {Γ : Nat → Option Nat} (G : xG l D s0 b0 Γ) (a0 : Nat) (p0 : Int32) : xMeth l D s0 Γ yX2_planAt (Cond.code yX2_planAt cX2_planAt 5 (some (.object "ReserveLedger$Plan"))) (10) (212) [.ref a0, .int p0] xeR (fX2_planAt a0 p0) := by
  refine xMeth.of (lv0 := [(0, va_rf (some a0)), (1, .int p0)]) G (by decide +kernel) (Or.inl rfl) (Nat.le_of_ble_eq_true rfl) rfl (fun x F hnL hRm hmn ht e1 e2 e3 e4 => ?_)
  have hno : ∀ pc, xNo x pc := fun pc z hz => by rw [ht.1 rfl] at hz; cases hz
  unfold fX2_planAt
  refine xr_aload_n 0 (r := (some a0)) F dX2_planAt_0 rfl ?_
  refine xr_VR (y := yX2_queue) (As := []) (r := (some a0)) F (hno _) dX2_planAt_1 (fun z => fX2_queue_m (xFG F) z) (Or.inl rfl) (ci := 1) (C := RX2) (T := TX2) rfl q2815 q2812 q2813 q2814 (xroom hRm (Nat.le_of_ble_eq_true rfl) (Nat.le_of_ble_eq_true rfl)) ⟨by decide, by decide⟩ n_X2_queue rfl (xcat (Nat.le_of_ble_eq_true rfl)) (fun v1 => ?_)
  refine xs_a_n [1] F dX2_planAt_4 hnL rfl rfl (xk2 rfl rfl xk0) ?_
  refine xr_iload_n 1 F dX2_planAt_5 rfl ?_
  refine xs_i_n [0, 1] F dX2_planAt_6 hnL rfl rfl (xk2 rfl (xrf_cat _) (xk1 rfl rfl xk0)) ?_
  exact xI.sub [2, 1, 0] rfl (fX2_planAt_p7_ok F hnL hRm hno hmn xFU p0 v1 p0)
theorem fX1_planned_m {l : Launch} {D : xD} {s0 : State} {b0 : Nat} {Γ : Nat → Option Nat} (G : xG l D s0 b0 Γ) (a0 : Nat) (p0 : Int32) (p1 : Int32) : xMeth l D s0 Γ yX1_planned (Cond.code yX1_planned cX1_planned 4 (some .int)) (11) (236) [.ref a0, .int p0, .int p1] xeI (fX1_planned a0 p0 p1) := by
  refine xMeth.of (lv0 := [(0, va_rf (some a0)), (1, .int p0), (2, .int p1)]) G (by decide +kernel) (Or.inl rfl) (Nat.le_of_ble_eq_true rfl) rfl (fun x F hnL hRm hmn ht e1 e2 e3 e4 => ?_)
  have hno : ∀ pc, xNo x pc := fun pc z hz => by rw [ht.1 rfl] at hz; cases hz
  unfold fX1_planned
  refine xr_iload_n 2 F dX1_planned_0 rfl ?_
  refine xr_iconst (0 : Int32) F dX1_planned_1 rfl ?_
  refine xr_iconst (4 : Int32) F dX1_planned_2 rfl ?_
  refine xr_SI (y := yX1_inRange) (As := [.int p1, .int (0 : Int32), .int (4 : Int32)]) F (hno _) dX1_planned_3 (fX1_inRange_m (xFG F) p1 (0 : Int32) (4 : Int32)) (Or.inl rfl) q646 q121 (Or.inl q644) q645 (xroom hRm (Nat.le_of_ble_eq_true rfl) (Nat.le_of_ble_eq_true rfl)) ⟨by decide, by decide⟩ n_X1_inRange rfl (xcat (Nat.le_of_ble_eq_true rfl)) (fun v3 => ?_)
  refine xr_SV (y := yX1_checkThere) (As := [.int v3]) F (hno _) dX1_planned_6 (fX1_checkThere_m (xFG F) v3) (Or.inl rfl) q2618 q121 (Or.inl q2616) q2617 (xroom hRm (Nat.le_of_ble_eq_true rfl) (Nat.le_of_ble_eq_true rfl)) ⟨by decide, by decide⟩ n_X1_checkThere rfl (xcat (Nat.le_of_ble_eq_true rfl)) (fun _ => ?_)
  refine xr_aload_n 0 (r := (some a0)) F dX1_planned_9 rfl ?_
  refine xr_gR (r := (some a0)) (ref := "ReserveLedger") F dX1_planned_10 (C := RX1) (T := TX1) (N := 7) rfl (by decide) (Or.inl q614) (Or.inl rfl) (fun v10 => ?_)
  refine xr_iload_n 1 F dX1_planned_13 rfl ?_
  refine xr_VR (y := yX2_planAt) (As := [.int p0]) (r := v10) F (hno _) dX1_planned_14 (fun z => fX2_planAt_m (xFG F) z p0) (Or.inl rfl) (ci := 1) (C := RX2) (T := TX2) rfl q2811 q2808 q2809 q2810 (xroom hRm (Nat.le_of_ble_eq_true rfl) (Nat.le_of_ble_eq_true rfl)) ⟨by decide, by decide⟩ n_X2_planAt rfl (xcat (Nat.le_of_ble_eq_true rfl)) (fun v14 => ?_)
  refine xs_a_n [2] F dX1_planned_17 hnL rfl rfl (xk2 rfl rfl xk0) ?_
  refine xr_aload_n 0 (r := v14) F dX1_planned_18 rfl ?_
  refine xr_ifnonnull 26 F dX1_planned_19 rfl ?_ ?_
  · refine xr_iconst (-1 : Int32) F dX1_planned_22 rfl ?_
    refine xr_goto 31 F dX1_planned_23 rfl ?_
    exact xr_iret F dX1_planned_31
  · refine xr_aload_n 0 (r := v14) F dX1_planned_26 rfl ?_
    refine xr_iload_n 1 F dX1_planned_27 rfl ?_
    refine xr_VI (y := yX18_part) (As := [.int p1]) (r := v14) F (hno _) dX1_planned_28 (fun z => fX18_part_m (xFG F) z p1) (Or.inl rfl) (ci := 38) (C := RX18) (T := TX18) rfl q1352 q2902 q1350 q1351 (xroom hRm (Nat.le_of_ble_eq_true rfl) (Nat.le_of_ble_eq_true rfl)) ⟨by decide, by decide⟩ n_X18_part rfl (xcat (Nat.le_of_ble_eq_true rfl)) (fun v28 => ?_)
    exact xr_iret F dX1_planned_31
theorem fX0_planned_m {l : Launch} {D : xD} {s0 : State} {b0 : Nat} {Γ : Nat → Option Nat} (G : xG l D s0 b0 Γ) (p0 : Option Nat) (p1 : Int32) (p2 : Int32) (p3 : Option Nat) : xMeth l D s0 Γ yX0_planned (Cond.codeWith yX0_planned cX0_planned 5 (some .int) [(0, 10, 13, 19)]) (12) (259) [va_rf p0, .int p1, .int p2, va_rf p3] xeI (fX0_planned p0 p1 p2 p3) := by
  refine xMeth.of (lv0 := [(0, va_rf p0), (1, .int p1), (2, .int p2), (3, va_rf p3)]) G (by decide +kernel) (Or.inr ⟨_, rfl⟩) (by simp [lg_sl, xrf_cat, xct_i, xct_l, xct_d, xct_r]) (by simp [lv_args, xrf_cat, xct_i, xct_l, xct_d, xct_r, xrf_some]) (fun x F hnL hRm hmn ht e1 e2 e3 e4 => ?_)
  have htb : x.2.2.2.2.2.2.2.2.2.1.exceptionTable.toList = tableOf [(0, 10, 13, 19)] := ht.2 _ rfl
  unfold fX0_planned
  refine xr_aload_n 3 (r := p3) F dX0_planned_0 rfl ?_
  refine xr_iconst (0 : Int32) F dX0_planned_1 rfl ?_
  refine xr_aload_n 0 (r := p0) F dX0_planned_2 rfl ?_
  refine xr_iload_n 1 F dX0_planned_3 rfl ?_
  refine xr_iload_n 2 F dX0_planned_4 rfl ?_
  refine xr_VIT (y := yX1_planned) (As := [.int p1, .int p2]) (r := p0) F dX0_planned_5 (fun z => fX1_planned_m (xFG F) z p1 p2) (Or.inl rfl) (ci := 0) (C := RX1) (T := TX1) rfl q2807 q2804 q2805 q2806 (xroom hRm (Nat.le_of_ble_eq_true rfl) (Nat.le_of_ble_eq_true rfl)) ⟨by decide, by decide⟩ n_X1_planned rfl (xcat (Nat.le_of_ble_eq_true rfl)) (fun v5 => ?_) (fun q => ?_)
  · refine xr_i2l F dX0_planned_8 ?_
    refine xr_last (r := p3) F dX0_planned_9 ?_
    refine xr_goto 17 F dX0_planned_10 rfl ?_
    refine xr_iconst (0 : Int32) F dX0_planned_17 rfl ?_
    exact xr_iret F dX0_planned_18
  · refine xT.catch F htb (tableOf []) ⟨0, 10, 13, 19⟩ (tableOf []) rfl rfl xps0 rfl (Or.inr ⟨by decide, _, q2471, q924⟩) ?_
    refine xs_a [] F dX0_planned_13 hnL rfl rfl xk0 ?_
    refine xr_iconst (1 : Int32) F dX0_planned_15 rfl ?_
    exact xr_iret F dX0_planned_16
theorem fX1_checkArgument_m {l : Launch} {D : xD} {s0 : State} {b0 : Nat} {Γ : Nat → Option Nat} (G : xG l D s0 b0 Γ) (p0 : Int32) : xMeth l D s0 Γ yX1_checkArgument (Cond.code yX1_checkArgument cX1_checkArgument 1 none) (6) (89) [.int p0] xeV (fX1_checkArgument p0) := by
  refine xMeth.of (lv0 := [(0, .int p0)]) G (by decide +kernel) (Or.inl rfl) (Nat.le_of_ble_eq_true rfl) rfl (fun x F hnL hRm hmn ht e1 e2 e3 e4 => ?_)
  have hno : ∀ pc, xNo x pc := fun pc z hz => by rw [ht.1 rfl] at hz; cases hz
  unfold fX1_checkArgument
  refine xr_iload_n 0 F dX1_checkArgument_0 rfl ?_
  refine xr_if_ne 12 F dX1_checkArgument_1 rfl ?_ ?_
  · refine xr_mk (names := xnms) F dX1_checkArgument_4 dX1_checkArgument_7 dX1_checkArgument_8 rfl (by decide +kernel) (by decide +kernel) q2457 q129 xat_15 xag_15 (xao_15 13 q2457) (xroom hRm (Nat.le_of_ble_eq_true rfl) (Nat.le_of_ble_eq_true rfl)) (xcat (Nat.le_of_ble_eq_true rfl)) (fun v4 => ?_)
    exact xr_throw (r := (some v4)) F dX1_checkArgument_11 (hno _)
  · exact xr_vret F dX1_checkArgument_12
theorem fX10_become_m {l : Launch} {D : xD} {s0 : State} {b0 : Nat} {Γ : Nat → Option Nat} (G : xG l D s0 b0 Γ) (a0 : Nat) (p0 : Option Nat) : xMeth l D s0 Γ yX10_become (Cond.code yX10_become cX10_become 2 none) (1) (60) [.ref a0, va_rf p0] xeV (fX10_become a0 p0) := by
  refine xMeth.of (lv0 := [(0, va_rf (some a0)), (1, va_rf p0)]) G (by decide +kernel) (Or.inl rfl) (by simp [lg_sl, xrf_cat, xct_i, xct_l, xct_d, xct_r]) (by simp [lv_args, xrf_cat, xct_i, xct_l, xct_d, xct_r, xrf_some]) (fun x F hnL hRm hmn ht e1 e2 e3 e4 => ?_)
  have hno : ∀ pc, xNo x pc := fun pc z hz => by rw [ht.1 rfl] at hz; cases hz
  unfold fX10_become
  refine xr_aload_n 1 (r := p0) F dX10_become_0 rfl ?_
  refine xr_gR (r := p0) (ref := "ReserveLedger$Stock") F dX10_become_1 (C := RX10) (T := TX10) (N := 4) rfl (by decide) (Or.inl q2019) (Or.inl rfl) (fun v1 => ?_)
  refine xr_iconst (0 : Int32) F dX10_become_4 rfl ?_
  refine xr_aload_n 0 (r := (some a0)) F dX10_become_5 rfl ?_
  refine xr_gR (r := (some a0)) (ref := "ReserveLedger$Stock") F dX10_become_6 (C := RX10) (T := TX10) (N := 4) rfl (by decide) (Or.inl q2019) (Or.inl rfl) (fun v6 => ?_)
  refine xr_iconst (0 : Int32) F dX10_become_9 rfl ?_
  refine xr_bipush (13 : Int32) F dX10_become_10 rfl ?_
  refine xr_cpI (t := 1) (ty := .int) (sr := v1) (dr := v6) F dX10_become_12 rfl rfl q2925 q348 q347 q137 (xroom hRm (Nat.le_of_ble_eq_true rfl) (Nat.le_of_ble_eq_true rfl)) (xcat (Nat.le_of_ble_eq_true rfl)) ?_
  exact xr_vret F dX10_become_15
theorem fX1_thought_m {l : Launch} {D : xD} {s0 : State} {b0 : Nat} {Γ : Nat → Option Nat} (G : xG l D s0 b0 Γ) (p0 : Option Nat) : xMeth l D s0 Γ yX1_thought (Cond.code yX1_thought cX1_thought 2 (some (.object "ReserveLedger$Stock"))) (2) (81) [va_rf p0] xeR (fX1_thought p0) := by
  refine xMeth.of (lv0 := [(0, va_rf p0)]) G (by decide +kernel) (Or.inl rfl) (by simp [lg_sl, xrf_cat, xct_i, xct_l, xct_d, xct_r]) (by simp [lv_args, xrf_cat, xct_i, xct_l, xct_d, xct_r, xrf_some]) (fun x F hnL hRm hmn ht e1 e2 e3 e4 => ?_)
  have hno : ∀ pc, xNo x pc := fun pc z hz => by rw [ht.1 rfl] at hz; cases hz
  unfold fX1_thought
  refine xr_new F dX1_thought_0 xk_24 xdf_24 q2919 q2013 q162 (fun v0 => ?_)
  refine xr_dup F dX1_thought_3 (xrf_cat _) ?_
  refine xr_aload_n 0 (r := p0) F dX1_thought_4 rfl ?_
  refine xr_gR (r := p0) (ref := "ReserveLedger$Herd") F dX1_thought_5 (C := RX6) (T := TX6) (N := 8) rfl (by decide) (Or.inr ⟨_, q2037⟩) (Or.inl rfl) (fun v5 => ?_)
  refine xr_IV (y := yX10_init) (As := [va_rf v5]) F (hno _) dX1_thought_8 (fX10_init_m (xFG F) v0 v5) rfl rfl q2016 (Or.inl q2920) q2015 (xroom hRm (Nat.le_of_ble_eq_true rfl) (Nat.le_of_ble_eq_true rfl)) ⟨by decide, by decide⟩ n_X10_init rfl (xcat (Nat.le_of_ble_eq_true rfl)) (fun _ => ?_)
  refine xs_a_n [0] F dX1_thought_11 hnL rfl rfl (xk2 rfl (xrf_cat _) xk0) ?_
  refine xr_aload_n 0 (r := (some v0)) F dX1_thought_12 rfl ?_
  refine xr_aload_n 1 (r := p0) F dX1_thought_13 rfl ?_
  refine xr_gR (r := p0) (ref := "ReserveLedger$Herd") F dX1_thought_14 (C := RX6) (T := TX6) (N := 8) rfl (by decide) (Or.inr ⟨_, q2043⟩) (Or.inl rfl) (fun v14 => ?_)
  refine xr_VV (y := yX10_become) (As := [va_rf v14]) (r := (some v0)) F (hno _) dX1_thought_17 (fun z => fX10_become_m (xFG F) z v14) (Or.inl rfl) (ci := 24) (C := RX10) (T := TX10) rfl q2924 q2921 q2922 q2923 (xroom hRm (Nat.le_of_ble_eq_true rfl) (Nat.le_of_ble_eq_true rfl)) ⟨by decide, by decide⟩ n_X10_become rfl (xcat (Nat.le_of_ble_eq_true rfl)) (fun _ => ?_)
  refine xr_aload_n 0 (r := (some v0)) F dX1_thought_20 rfl ?_
  exact xr_aret (v := (some v0)) F dX1_thought_21 (Or.inl ⟨_, rfl⟩)
theorem fX1_lambda_after_10_m {l : Launch} {D : xD} {s0 : State} {b0 : Nat} {Γ : Nat → Option Nat} (G : xG l D s0 b0 Γ) (p0 : Int32) (p1 : Option Nat) : xMeth l D s0 Γ yX1_lambda_after_10 (Cond.code yX1_lambda_after_10 cX1_lambda_after_10 2 (some .boolean)) (1) (12) [.int p0, va_rf p1] xeI (fX1_lambda_after_10 p0 p1) := by
  refine xMeth.of (lv0 := [(0, .int p0), (1, va_rf p1)]) G (by decide +kernel) (Or.inl rfl) (by simp [lg_sl, xrf_cat, xct_i, xct_l, xct_d, xct_r]) (by simp [lv_args, xrf_cat, xct_i, xct_l, xct_d, xct_r, xrf_some]) (fun x F hnL hRm hmn ht e1 e2 e3 e4 => ?_)
  have hno : ∀ pc, xNo x pc := fun pc z hz => by rw [ht.1 rfl] at hz; cases hz
  unfold fX1_lambda_after_10
  refine xr_iconst (1 : Int32) F dX1_lambda_after_10_0 rfl ?_
  exact xr_zret F dX1_lambda_after_10_1 rfl
theorem xrL_10 {α : Type} {x : xC} {emb : α → Option Value} {own : String} {cc : ByteArray} {ret : Option FieldType} {pc idx cnt : Nat} {lv : List (Nat × Value)} {st st0 : List Value} {kk : Int32 → xM α} {r : Option Nat} (p0 : Int32) (p1 : Option Nat) (F : xF x own cc ret) (hno : xNo x pc) (hd : decode cc pc = .ok (.invokeinterface idx cnt, 5)) (w3 : Cond.methodLink own idx ⟨"ReserveLedger$Watch", "goesOn", "(ILReserveLedger$Stock;)Z"⟩ ∈ lw_all) (hroom : xRoom x 3 55) (hst : st0 = ([.int p0, va_rf p1] : List Value).reverse ++ va_rf r :: st) (hcat : (st.map fun v => v.category).sum ≤ 8) (K : ∀ v, xI x emb (pc + 5) lv (.int v :: st) (kk v)) : xI x emb pc lv st0 (xbind (xsel r [(1010, fun z => fL_10 z p0 p1)]) kk) := by
  refine xr_L (k := 10) (x0 := ⟨"ReserveLedger$Watch", "goesOn", "(ILReserveLedger$Stock;)Z"⟩) (yi := yX1_lambda_after_10) (As := [.int p0, va_rf p1]) (embb := xeI) (fr := 2) (lo := 33) (fs := []) F hno hd rfl q4100 xlfile_10 xlsec_10 xllaid_10 xlcode_10 xlflags_10 xleN_10 xleC_10 (fun fi i hm => by cases hm) ⟨rfl, rfl, xlS_10.2.symm⟩ ⟨rfl, rfl, xlS_10.1.symm⟩ (by decide +kernel) w3 q2934 q2933 ⟨by decide, by decide⟩ ⟨by decide, by decide⟩ (fun a => by simp [lg_sl, xrf_cat, xct_i, xct_l, xct_d, xct_r]) (fun x1 a F1 hnL hRm hno1 hr e1 e2 e3 e4 => ?_) hroom (show ∀ sig, parseMethodDescriptor "(ILReserveLedger$Stock;)Z" = some sig → 2 = sig.parameters.length from xln (by decide +kernel)) hst hcat K
  show xI x1 _ 0 _ [] (fL_10 a p0 p1)
  unfold fL_10
  refine xl_iload 1 F1 xld_10_0 rfl ?_
  refine xl_aload 2 (r := p1) F1 xld_10_1 rfl ?_
  refine xl_S (yi := yX1_lambda_after_10) (As := [.int p0, va_rf p1]) (st := []) (embb := xeI) F1 (hno1 _) hr xld_10_2 (fX1_lambda_after_10_m (xFLG F1) p0 p1) (Or.inl rfl) q2927 q121 q2926 (xroom hRm (Nat.le_of_ble_eq_true rfl) (Nat.le_of_ble_eq_true rfl)) ⟨by decide, by decide⟩ n_X1_lambda_after_10 rfl (xcat (Nat.le_of_ble_eq_true rfl)) (fun v => ?_)
  exact xl_nret F1 xld_10_5
theorem fX1_lambda_below_11_m {l : Launch} {D : xD} {s0 : State} {b0 : Nat} {Γ : Nat → Option Nat} (G : xG l D s0 b0 Γ) (p0 : Int32) (p1 : Int32) (p2 : Option Nat) : xMeth l D s0 Γ yX1_lambda_below_11 (Cond.code yX1_lambda_below_11 cX1_lambda_below_11 3 (some .boolean)) (2) (37) [.int p0, .int p1, va_rf p2] xeI (fX1_lambda_below_11 p0 p1 p2) := by
  refine xMeth.of (lv0 := [(0, .int p0), (1, .int p1), (2, va_rf p2)]) G (by decide +kernel) (Or.inl rfl) (by simp [lg_sl, xrf_cat, xct_i, xct_l, xct_d, xct_r]) (by simp [lv_args, xrf_cat, xct_i, xct_l, xct_d, xct_r, xrf_some]) (fun x F hnL hRm hmn ht e1 e2 e3 e4 => ?_)
  have hno : ∀ pc, xNo x pc := fun pc z hz => by rw [ht.1 rfl] at hz; cases hz
  unfold fX1_lambda_below_11
  refine xr_aload_n 2 (r := p2) F dX1_lambda_below_11_0 rfl ?_
  refine xr_VI (y := yX10_total) (As := []) (r := p2) F (hno _) dX1_lambda_below_11_1 (fun z => fX10_total_m (xFG F) z) (Or.inl rfl) (ci := 24) (C := RX10) (T := TX10) rfl q1642 q2515 q1640 q1641 (xroom hRm (Nat.le_of_ble_eq_true rfl) (Nat.le_of_ble_eq_true rfl)) ⟨by decide, by decide⟩ n_X10_total rfl (xcat (Nat.le_of_ble_eq_true rfl)) (fun v1 => ?_)
  refine xr_iload_n 0 F dX1_lambda_below_11_4 rfl ?_
  refine xr_icmp_lt 12 F dX1_lambda_below_11_5 rfl ?_ ?_
  · refine xr_iconst (0 : Int32) F dX1_lambda_below_11_12 rfl ?_
    exact xr_zret F dX1_lambda_below_11_13 rfl
  · refine xr_iconst (1 : Int32) F dX1_lambda_below_11_8 rfl ?_
    refine xr_goto 13 F dX1_lambda_below_11_9 rfl ?_
    exact xr_zret F dX1_lambda_below_11_13 rfl
theorem xrL_11 {α : Type} {x : xC} {emb : α → Option Value} {own : String} {cc : ByteArray} {ret : Option FieldType} {pc idx cnt : Nat} {lv : List (Nat × Value)} {st st0 : List Value} {kk : Int32 → xM α} {r : Option Nat} (p0 : Int32) (p1 : Option Nat) (F : xF x own cc ret) (hno : xNo x pc) (hd : decode cc pc = .ok (.invokeinterface idx cnt, 5)) (w3 : Cond.methodLink own idx ⟨"ReserveLedger$Watch", "goesOn", "(ILReserveLedger$Stock;)Z"⟩ ∈ lw_all) (hroom : xRoom x 4 81) (hst : st0 = ([.int p0, va_rf p1] : List Value).reverse ++ va_rf r :: st) (hcat : (st.map fun v => v.category).sum ≤ 8) (K : ∀ v, xI x emb (pc + 5) lv (.int v :: st) (kk v)) : xI x emb pc lv st0 (xbind (xsel r [(1011, fun z => fL_11 z p0 p1)]) kk) := by
  refine xr_L (k := 11) (x0 := ⟨"ReserveLedger$Watch", "goesOn", "(ILReserveLedger$Stock;)Z"⟩) (yi := yX1_lambda_below_11) (As := [.int p0, va_rf p1]) (embb := xeI) (fr := 3) (lo := 59) (fs := [(15, 0)]) F hno hd rfl q4100 xlfile_11 xlsec_11 xllaid_11 xlcode_11 xlflags_11 xleN_11 xleC_11 (fun fi i hm => by
    simp only [List.mem_cons, List.not_mem_nil, or_false, Prod.mk.injEq] at hm
    rcases hm with ⟨rfl, rfl⟩
    · exact ⟨_, _, _, _, xleF_11_0⟩) ⟨rfl, rfl, xlS_11.2.symm⟩ ⟨rfl, rfl, xlS_11.1.symm⟩ (by decide +kernel) w3 q2934 q2933 ⟨by decide, by decide⟩ ⟨by decide, by decide⟩ (fun a => by simp [lg_sl, xrf_cat, xct_i, xct_l, xct_d, xct_r]) (fun x1 a F1 hnL hRm hno1 hr e1 e2 e3 e4 => ?_) hroom (show ∀ sig, parseMethodDescriptor "(ILReserveLedger$Stock;)Z" = some sig → 2 = sig.parameters.length from xln (by decide +kernel)) hst hcat K
  show xI x1 _ 0 _ [] (fL_11 a p0 p1)
  unfold fL_11
  refine xl_aload 0 (r := some a) F1 xld_11_0 rfl ?_
  refine xl_gI F1 xld_11_1 hr (by decide) (by decide) (fun c0 => ?_)
  refine xl_iload 1 F1 xld_11_4 rfl ?_
  refine xl_aload 2 (r := p1) F1 xld_11_5 rfl ?_
  refine xl_S (yi := yX1_lambda_below_11) (As := [.int c0, .int p0, va_rf p1]) (st := []) (embb := xeI) F1 (hno1 _) hr xld_11_6 (fX1_lambda_below_11_m (xFLG F1) c0 p0 p1) (Or.inl rfl) q2965 q121 q2964 (xroom hRm (Nat.le_of_ble_eq_true rfl) (Nat.le_of_ble_eq_true rfl)) ⟨by decide, by decide⟩ n_X1_lambda_below_11 rfl (xcat (Nat.le_of_ble_eq_true rfl)) (fun v => ?_)
  exact xl_nret F1 xld_11_9
theorem fX10_takeAdults_p10_ok {x : xC} (F : xF x RX10 cX10_takeAdults none) (hnL : xnL x = 5) (hRm : ∃ dc ds, x.2.2.2.1 = { frames := 2, cells := dc, slots := ds, locals := 33 }) (hno : ∀ pc, xNo x pc) (hmn : xmn x = "takeAdults" ∧ xmy x yX10_takeAdults) : ∀ (n : Nat) (l0 : Nat) (l2 : Int32) (l3 : Int32), xI x xeV 10 [(0, va_rf (some l0)), (2, .int l2), (3, .int l3)] [] (fX10_takeAdults_p10 n l0 l2 l3) := by
  intro n
  induction n with
  | zero => intro l0 l2 l3; exact xI.stuck
  | succ n ih =>
    intro l0 l2 l3
    unfold fX10_takeAdults_p10
    refine xr_iload_n 2 F dX10_takeAdults_10 rfl ?_
    refine xr_aload_n 0 (r := (some l0)) F dX10_takeAdults_11 rfl ?_
    refine xr_gR (r := (some l0)) (ref := "ReserveLedger$Stock") F dX10_takeAdults_12 (C := RX10) (T := TX10) (N := 4) rfl (by decide) (Or.inl q2018) (Or.inl rfl) (fun v12 => ?_)
    refine xr_gI (r := v12) (ref := "ReserveLedger$Species") F dX10_takeAdults_15 (C := RX7) (T := TX7) (N := 6) rfl (by decide) (Or.inr ⟨_, q1927⟩) (Or.inl rfl) (fun v15 => ?_)
    refine xr_icmp_lt 55 F dX10_takeAdults_18 rfl ?_ ?_
    · exact xr_vret F dX10_takeAdults_55
    · refine xr_iload_n 1 F dX10_takeAdults_21 rfl ?_
      refine xr_aload_n 0 (r := (some l0)) F dX10_takeAdults_22 rfl ?_
      refine xr_gR (r := (some l0)) (ref := "ReserveLedger$Stock") F dX10_takeAdults_23 (C := RX10) (T := TX10) (N := 4) rfl (by decide) (Or.inl q2019) (Or.inl rfl) (fun v23 => ?_)
      refine xr_iload_n 2 F dX10_takeAdults_26 rfl ?_
      refine xr_iald (r := v23) F dX10_takeAdults_27 (fun v27 => ?_)
      refine xr_SI (y := yJ12_min) (As := [.int l2, .int v27]) F (hno _) dX10_takeAdults_28 (fJ12_min_m (xFG F) l2 v27) (Or.inl rfl) q345 q135 (Or.inl q2982) q344 (xroom hRm (Nat.le_of_ble_eq_true rfl) (Nat.le_of_ble_eq_true rfl)) ⟨by decide, by decide⟩ n_J12_min rfl (xcat (Nat.le_of_ble_eq_true rfl)) (fun v28 => ?_)
      refine xs_i [0, 1, 2] F dX10_takeAdults_31 hnL rfl rfl (xk1 rfl rfl (xk1 rfl rfl (xk2 rfl rfl xk0))) ?_
      refine xr_aload_n 1 (r := (some l0)) F dX10_takeAdults_33 rfl ?_
      refine xr_gR (r := (some l0)) (ref := "ReserveLedger$Stock") F dX10_takeAdults_34 (C := RX10) (T := TX10) (N := 4) rfl (by decide) (Or.inl q2019) (Or.inl rfl) (fun v34 => ?_)
      refine xr_iload_n 3 F dX10_takeAdults_37 rfl ?_
      refine xr_dup2_11 F dX10_takeAdults_38 rfl (xrf_cat _) ?_
      refine xr_iald (r := v34) F dX10_takeAdults_39 (fun v39 => ?_)
      refine xr_iload 0 F dX10_takeAdults_40 rfl ?_
      refine xr_isub F dX10_takeAdults_42 ?_
      refine xr_iast (r := v34) F dX10_takeAdults_43 ?_
      refine xr_iload_n 2 F dX10_takeAdults_44 rfl ?_
      refine xr_iload 0 F dX10_takeAdults_45 rfl ?_
      refine xr_isub F dX10_takeAdults_47 ?_
      refine xr_letI (fun x2_48 => ?_)
      refine xs_i_n [1, 3] F dX10_takeAdults_48 hnL rfl rfl (xk1 rfl rfl (xk1 rfl rfl xk0)) ?_
      refine xs_inc [2, 0, 1] F dX10_takeAdults_49 rfl hnL rfl rfl (xk2 rfl rfl (xk1 rfl rfl xk0)) (fun x3_49 => ?_)
      refine xr_goto 10 F dX10_takeAdults_52 rfl ?_
      exact xI.sub [2, 1, 0] rfl (ih l0 x2_48 x3_49)
theorem fX10_takeAdults_m {l : Launch} {D : xD} {s0 : State} {b0 : Nat} {Γ : Nat → Option Nat} (G : xG l D s0 b0 Γ) (a0 : Nat) (p0 : Int32) : xMeth l D s0 Γ yX10_takeAdults (Cond.code yX10_takeAdults cX10_takeAdults 5 none) (2) (33) [.ref a0, .int p0] xeV (fX10_takeAdults a0 p0) := by
  refine xMeth.of (lv0 := [(0, va_rf (some a0)), (1, .int p0)]) G (by decide +kernel) (Or.inl rfl) (Nat.le_of_ble_eq_true rfl) rfl (fun x F hnL hRm hmn ht e1 e2 e3 e4 => ?_)
  have hno : ∀ pc, xNo x pc := fun pc z hz => by rw [ht.1 rfl] at hz; cases hz
  unfold fX10_takeAdults
  refine xr_iload_n 1 F dX10_takeAdults_0 rfl ?_
  refine xs_i_n [0] F dX10_takeAdults_1 hnL rfl rfl (xk1 rfl rfl xk0) ?_
  refine xr_aload_n 1 (r := (some a0)) F dX10_takeAdults_2 rfl ?_
  refine xr_gR (r := (some a0)) (ref := "ReserveLedger$Stock") F dX10_takeAdults_3 (C := RX10) (T := TX10) (N := 4) rfl (by decide) (Or.inl q2018) (Or.inl rfl) (fun v3 => ?_)
  refine xr_gI (r := v3) (ref := "ReserveLedger$Species") F dX10_takeAdults_6 (C := RX7) (T := TX7) (N := 6) rfl (by decide) (Or.inr ⟨_, q1919⟩) (Or.inl rfl) (fun v6 => ?_)
  refine xs_i_n [0, 1] F dX10_takeAdults_9 hnL rfl rfl (xk2 rfl rfl (xk1 rfl rfl xk0)) ?_
  exact xI.sub [2, 1, 0] rfl (fX10_takeAdults_p10_ok F hnL hRm hno hmn xFU a0 p0 v6)
theorem fX1_lambda_works_12_p25_ok {x : xC} (F : xF x RX1 cX1_lambda_works_12 (some .boolean)) (hnL : xnL x = 5) (hRm : ∃ dc ds, x.2.2.2.1 = { frames := 3, cells := dc, slots := ds, locals := 57 }) (hno : ∀ pc, xNo x pc) (hmn : xmn x = "lambda$works$12" ∧ xmy x yX1_lambda_works_12) (l0 : Int32) (l3 : Option Nat) (s0 : Int32) : xI x xeI 25 [(0, .int l0), (3, va_rf l3)] [.int s0] (fX1_lambda_works_12_p25 l0 l3 s0) := by
  unfold fX1_lambda_works_12_p25
  refine xs_i [0, 1] F dX1_lambda_works_12_25 hnL rfl rfl (xk1 rfl rfl (xk2 rfl (xrf_cat _) xk0)) ?_
  refine xr_iload 0 F dX1_lambda_works_12_27 rfl ?_
  refine xr_if_eq 37 F dX1_lambda_works_12_29 rfl ?_ ?_
  · refine xr_iload 0 F dX1_lambda_works_12_37 rfl ?_
    exact xr_nret F dX1_lambda_works_12_39
  · refine xr_aload_n 2 (r := l3) F dX1_lambda_works_12_32 rfl ?_
    refine xr_iload_n 1 F dX1_lambda_works_12_33 rfl ?_
    refine xr_VV (y := yX10_takeAdults) (As := [.int l0]) (r := l3) F (hno _) dX1_lambda_works_12_34 (fun z => fX10_takeAdults_m (xFG F) z l0) (Or.inl rfl) (ci := 24) (C := RX10) (T := TX10) rfl q2981 q2978 q2979 q2980 (xroom hRm (Nat.le_of_ble_eq_true rfl) (Nat.le_of_ble_eq_true rfl)) ⟨by decide, by decide⟩ n_X10_takeAdults rfl (xcat (Nat.le_of_ble_eq_true rfl)) (fun _ => ?_)
    refine xr_iload 0 F dX1_lambda_works_12_37 rfl ?_
    exact xr_nret F dX1_lambda_works_12_39
theorem fX1_lambda_works_12_p20_ok {x : xC} (F : xF x RX1 cX1_lambda_works_12 (some .boolean)) (hnL : xnL x = 5) (hRm : ∃ dc ds, x.2.2.2.1 = { frames := 3, cells := dc, slots := ds, locals := 57 }) (hno : ∀ pc, xNo x pc) (hmn : xmn x = "lambda$works$12" ∧ xmy x yX1_lambda_works_12) (l0 : Int32) (l3 : Option Nat) : xI x xeI 20 [(0, .int l0), (3, va_rf l3)] [] (fX1_lambda_works_12_p20 l0 l3) := by
  unfold fX1_lambda_works_12_p20
  refine xr_iconst (1 : Int32) F dX1_lambda_works_12_20 rfl ?_
  refine xr_goto 25 F dX1_lambda_works_12_21 rfl ?_
  exact xI.sub [0, 1] rfl (fX1_lambda_works_12_p25_ok F hnL hRm hno hmn l0 l3 (1 : Int32))
theorem fX1_lambda_works_12_p24_ok {x : xC} (F : xF x RX1 cX1_lambda_works_12 (some .boolean)) (hnL : xnL x = 5) (hRm : ∃ dc ds, x.2.2.2.1 = { frames := 3, cells := dc, slots := ds, locals := 57 }) (hno : ∀ pc, xNo x pc) (hmn : xmn x = "lambda$works$12" ∧ xmy x yX1_lambda_works_12) (l0 : Int32) (l3 : Option Nat) : xI x xeI 24 [(0, .int l0), (3, va_rf l3)] [] (fX1_lambda_works_12_p24 l0 l3) := by
  unfold fX1_lambda_works_12_p24
  refine xr_iconst (0 : Int32) F dX1_lambda_works_12_24 rfl ?_
  exact xI.sub [0, 1] rfl (fX1_lambda_works_12_p25_ok F hnL hRm hno hmn l0 l3 (0 : Int32))
theorem fX1_lambda_works_12_m {l : Launch} {D : xD} {s0 : State} {b0 : Nat} {Γ : Nat → Option Nat} (G : xG l D s0 b0 Γ) (p0 : Int32) (p1 : Int32) (p2 : Int32) (p3 : Option Nat) : xMeth l D s0 Γ yX1_lambda_works_12 (Cond.code yX1_lambda_works_12 cX1_lambda_works_12 5 (some .boolean)) (3) (57) [.int p0, .int p1, .int p2, va_rf p3] xeI (fX1_lambda_works_12 p0 p1 p2 p3) := by
  refine xMeth.of (lv0 := [(0, .int p0), (1, .int p1), (2, .int p2), (3, va_rf p3)]) G (by decide +kernel) (Or.inl rfl) (by simp [lg_sl, xrf_cat, xct_i, xct_l, xct_d, xct_r]) (by simp [lv_args, xrf_cat, xct_i, xct_l, xct_d, xct_r, xrf_some]) (fun x F hnL hRm hmn ht e1 e2 e3 e4 => ?_)
  have hno : ∀ pc, xNo x pc := fun pc z hz => by rw [ht.1 rfl] at hz; cases hz
  unfold fX1_lambda_works_12
  refine xr_aload_n 3 (r := p3) F dX1_lambda_works_12_0 rfl ?_
  refine xr_VI (y := yX10_adults) (As := []) (r := p3) F (hno _) dX1_lambda_works_12_1 (fun z => fX10_adults_m (xFG F) z) (Or.inl rfl) (ci := 24) (C := RX10) (T := TX10) rfl q2319 q2516 q2317 q2318 (xroom hRm (Nat.le_of_ble_eq_true rfl) (Nat.le_of_ble_eq_true rfl)) ⟨by decide, by decide⟩ n_X10_adults rfl (xcat (Nat.le_of_ble_eq_true rfl)) (fun v1 => ?_)
  refine xr_iload_n 0 F dX1_lambda_works_12_4 rfl ?_
  refine xr_icmp_lt 24 F dX1_lambda_works_12_5 rfl ?_ ?_
  · exact xI.sub [0, 3] rfl (fX1_lambda_works_12_p24_ok F hnL hRm hno hmn p0 p3)
  · refine xr_iload_n 2 F dX1_lambda_works_12_8 rfl ?_
    refine xr_if_eq 20 F dX1_lambda_works_12_9 rfl ?_ ?_
    · exact xI.sub [0, 3] rfl (fX1_lambda_works_12_p20_ok F hnL hRm hno hmn p0 p3)
    · refine xr_aload_n 3 (r := p3) F dX1_lambda_works_12_12 rfl ?_
      refine xr_VI (y := yX10_total) (As := []) (r := p3) F (hno _) dX1_lambda_works_12_13 (fun z => fX10_total_m (xFG F) z) (Or.inl rfl) (ci := 24) (C := RX10) (T := TX10) rfl q1642 q2515 q1640 q1641 (xroom hRm (Nat.le_of_ble_eq_true rfl) (Nat.le_of_ble_eq_true rfl)) ⟨by decide, by decide⟩ n_X10_total rfl (xcat (Nat.le_of_ble_eq_true rfl)) (fun v13 => ?_)
      refine xr_iload_n 1 F dX1_lambda_works_12_16 rfl ?_
      refine xr_icmp_lt 24 F dX1_lambda_works_12_17 rfl ?_ ?_
      · exact xI.sub [0, 3] rfl (fX1_lambda_works_12_p24_ok F hnL hRm hno hmn p0 p3)
      · exact xI.sub [0, 3] rfl (fX1_lambda_works_12_p20_ok F hnL hRm hno hmn p0 p3)
theorem xrL_12 {α : Type} {x : xC} {emb : α → Option Value} {own : String} {cc : ByteArray} {ret : Option FieldType} {pc idx cnt : Nat} {lv : List (Nat × Value)} {st st0 : List Value} {kk : Int32 → xM α} {r : Option Nat} (p0 : Int32) (p1 : Option Nat) (F : xF x own cc ret) (hno : xNo x pc) (hd : decode cc pc = .ok (.invokeinterface idx cnt, 5)) (w3 : Cond.methodLink own idx ⟨"ReserveLedger$Watch", "goesOn", "(ILReserveLedger$Stock;)Z"⟩ ∈ lw_all) (hroom : xRoom x 5 103) (hst : st0 = ([.int p0, va_rf p1] : List Value).reverse ++ va_rf r :: st) (hcat : (st.map fun v => v.category).sum ≤ 8) (K : ∀ v, xI x emb (pc + 5) lv (.int v :: st) (kk v)) : xI x emb pc lv st0 (xbind (xsel r [(1012, fun z => fL_12 z p0 p1)]) kk) := by
  refine xr_L (k := 12) (x0 := ⟨"ReserveLedger$Watch", "goesOn", "(ILReserveLedger$Stock;)Z"⟩) (yi := yX1_lambda_works_12) (As := [.int p0, va_rf p1]) (embb := xeI) (fr := 4) (lo := 81) (fs := [(16, 0), (18, 1)]) F hno hd rfl q4100 xlfile_12 xlsec_12 xllaid_12 xlcode_12 xlflags_12 xleN_12 xleC_12 (fun fi i hm => by
    simp only [List.mem_cons, List.not_mem_nil, or_false, Prod.mk.injEq] at hm
    rcases hm with ⟨rfl, rfl⟩ | ⟨rfl, rfl⟩
    · exact ⟨_, _, _, _, xleF_12_0⟩
    · exact ⟨_, _, _, _, xleF_12_1⟩) ⟨rfl, rfl, xlS_12.2.symm⟩ ⟨rfl, rfl, xlS_12.1.symm⟩ (by decide +kernel) w3 q2934 q2933 ⟨by decide, by decide⟩ ⟨by decide, by decide⟩ (fun a => by simp [lg_sl, xrf_cat, xct_i, xct_l, xct_d, xct_r]) (fun x1 a F1 hnL hRm hno1 hr e1 e2 e3 e4 => ?_) hroom (show ∀ sig, parseMethodDescriptor "(ILReserveLedger$Stock;)Z" = some sig → 2 = sig.parameters.length from xln (by decide +kernel)) hst hcat K
  show xI x1 _ 0 _ [] (fL_12 a p0 p1)
  unfold fL_12
  refine xl_aload 0 (r := some a) F1 xld_12_0 rfl ?_
  refine xl_gI F1 xld_12_1 hr (by decide) (by decide) (fun c0 => ?_)
  refine xl_aload 0 (r := some a) F1 xld_12_4 rfl ?_
  refine xl_gI F1 xld_12_5 hr (by decide) (by decide) (fun c1 => ?_)
  refine xl_iload 1 F1 xld_12_8 rfl ?_
  refine xl_aload 2 (r := p1) F1 xld_12_9 rfl ?_
  refine xl_S (yi := yX1_lambda_works_12) (As := [.int c0, .int c1, .int p0, va_rf p1]) (st := []) (embb := xeI) F1 (hno1 _) hr xld_12_10 (fX1_lambda_works_12_m (xFLG F1) c0 c1 p0 p1) (Or.inl rfl) q2977 q121 q2976 (xroom hRm (Nat.le_of_ble_eq_true rfl) (Nat.le_of_ble_eq_true rfl)) ⟨by decide, by decide⟩ n_X1_lambda_works_12 rfl (xcat (Nat.le_of_ble_eq_true rfl)) (fun v => ?_)
  exact xl_nret F1 xld_12_13
theorem fX10_close_p128_ok {x : xC} (F : xF x RX10 cX10_close none) (hnL : xnL x = 6) (hRm : ∃ dc ds, x.2.2.2.1 = { frames := 2, cells := dc, slots := ds, locals := 35 }) (hno : ∀ pc, xNo x pc) (hmn : xmn x = "close" ∧ xmy x yX10_close) (l0 : Nat) (l3 : Int64) : xI x xeV 128 [(0, va_rf (some l0)), (3, .long l3)] [] (fX10_close_p128 l0 l3) := by
  unfold fX10_close_p128
  refine xr_aload_n 0 (r := (some l0)) F dX10_close_128 rfl ?_
  refine xr_lload_n 1 F dX10_close_129 rfl ?_
  refine xr_l2i F dX10_close_130 ?_
  refine xr_put (r := (some l0)) (ref := "ReserveLedger$Stock") F dX10_close_131 xk_24 (by decide) (Or.inl q2025) (Or.inl rfl) (Or.inl rfl) ⟨rfl, rfl⟩ ?_
  refine xr_aload_n 0 (r := (some l0)) F dX10_close_134 rfl ?_
  refine xr_gR (r := (some l0)) (ref := "ReserveLedger$Stock") F dX10_close_135 (C := RX10) (T := TX10) (N := 4) rfl (by decide) (Or.inl q2019) (Or.inl rfl) (fun v135 => ?_)
  refine xr_iconst (0 : Int32) F dX10_close_138 rfl ?_
  refine xr_aload_n 0 (r := (some l0)) F dX10_close_139 rfl ?_
  refine xr_gI (r := (some l0)) (ref := "ReserveLedger$Stock") F dX10_close_140 (C := RX10) (T := TX10) (N := 4) rfl (by decide) (Or.inl q2025) (Or.inl rfl) (fun v140 => ?_)
  refine xr_iast (r := v135) F dX10_close_143 ?_
  exact xr_vret F dX10_close_144
theorem fX10_close_p16_ok {x : xC} (F : xF x RX10 cX10_close none) (hnL : xnL x = 6) (hRm : ∃ dc ds, x.2.2.2.1 = { frames := 2, cells := dc, slots := ds, locals := 35 }) (hno : ∀ pc, xNo x pc) (hmn : xmn x = "close" ∧ xmy x yX10_close) : ∀ (n : Nat) (l0 : Nat) (l1 : Option Nat) (l2 : Int32) (l3 : Int64) (l5 : Int32), xI x xeV 16 [(0, va_rf (some l0)), (1, va_rf l1), (2, .int l2), (3, .long l3), (5, .int l5)] [] (fX10_close_p16 n l0 l1 l2 l3 l5) := by
  intro n
  induction n with
  | zero => intro l0 l1 l2 l3 l5; exact xI.stuck
  | succ n ih =>
    intro l0 l1 l2 l3 l5
    unfold fX10_close_p16
    refine xr_iload 4 F dX10_close_16 rfl ?_
    refine xr_if_le 96 F dX10_close_18 rfl ?_ ?_
    · refine xr_ldc2 F dX10_close_96 q2940 ?_
      refine xr_lload_n 3 F dX10_close_99 rfl ?_
      refine xr_ldc2 F dX10_close_100 q2939 ?_
      refine xr_ldiv F dX10_close_103 ?_
      refine xr_SJ (y := yJ12_min_2) (As := [.long (1000000 : Int64), .long (l3 / (1000 : Int64))]) F (hno _) dX10_close_104 (fJ12_min_2_m (xFG F) (1000000 : Int64) (l3 / (1000 : Int64))) (Or.inl rfl) q2424 q135 (Or.inl q2941) q2423 (xroom hRm (Nat.le_of_ble_eq_true rfl) (Nat.le_of_ble_eq_true rfl)) ⟨by decide, by decide⟩ n_J12_min_2 rfl (xcat (Nat.le_of_ble_eq_true rfl)) (fun v104 => ?_)
      refine xs_l_n [0, 2] F dX10_close_107 hnL rfl rfl (xk1 rfl rfl (xk2 rfl rfl xk0)) (xk21 rfl (xk21 rfl xk20)) ?_
      refine xr_iload_n 2 F dX10_close_108 rfl ?_
      refine xr_if_le 128 F dX10_close_109 rfl ?_ ?_
      · exact xI.sub [1, 0] rfl (fX10_close_p128_ok F hnL hRm hno hmn l0 v104)
      · refine xr_lconst 0 F dX10_close_112 rfl ?_
        refine xr_lload_n 0 F dX10_close_113 rfl ?_
        refine xr_iload_n 2 F dX10_close_114 rfl ?_
        refine xr_aload_n 1 (r := (some l0)) F dX10_close_115 rfl ?_
        refine xr_gI (r := (some l0)) (ref := "ReserveLedger$Stock") F dX10_close_116 (C := RX10) (T := TX10) (N := 4) rfl (by decide) (Or.inl q2023) (Or.inl rfl) (fun v116 => ?_)
        refine xr_isub F dX10_close_119 ?_
        refine xr_i2l F dX10_close_120 ?_
        refine xr_SJ (y := yJ12_min_2) (As := [.long v104, .long ((l2 - v116).toInt64)]) F (hno _) dX10_close_121 (fJ12_min_2_m (xFG F) v104 ((l2 - v116).toInt64)) (Or.inl rfl) q2424 q135 (Or.inl q2941) q2423 (xroom hRm (Nat.le_of_ble_eq_true rfl) (Nat.le_of_ble_eq_true rfl)) ⟨by decide, by decide⟩ n_J12_min_2 rfl (xcat (Nat.le_of_ble_eq_true rfl)) (fun v121 => ?_)
        refine xr_SJ (y := yJ12_max_2) (As := [.long (0 : Int64), .long v121]) F (hno _) dX10_close_124 (fJ12_max_2_m (xFG F) (0 : Int64) v121) (Or.inl rfl) q2430 q135 (Or.inl q2942) q2429 (xroom hRm (Nat.le_of_ble_eq_true rfl) (Nat.le_of_ble_eq_true rfl)) ⟨by decide, by decide⟩ n_J12_max_2 rfl (xcat (Nat.le_of_ble_eq_true rfl)) (fun v124 => ?_)
        refine xs_l_n [1] F dX10_close_127 hnL rfl rfl (xk1 rfl rfl xk0) (xk21 rfl xk20) ?_
        exact xI.sub [1, 0] rfl (fX10_close_p128_ok F hnL hRm hno hmn l0 v124)
    · refine xr_aload_n 0 (r := (some l0)) F dX10_close_21 rfl ?_
      refine xr_gR (r := (some l0)) (ref := "ReserveLedger$Stock") F dX10_close_22 (C := RX10) (T := TX10) (N := 4) rfl (by decide) (Or.inl q2019) (Or.inl rfl) (fun v22 => ?_)
      refine xr_iload 4 F dX10_close_25 rfl ?_
      refine xr_aload_n 0 (r := (some l0)) F dX10_close_27 rfl ?_
      refine xr_gR (r := (some l0)) (ref := "ReserveLedger$Stock") F dX10_close_28 (C := RX10) (T := TX10) (N := 4) rfl (by decide) (Or.inl q2019) (Or.inl rfl) (fun v28 => ?_)
      refine xr_iload 4 F dX10_close_31 rfl ?_
      refine xr_iconst (1 : Int32) F dX10_close_33 rfl ?_
      refine xr_isub F dX10_close_34 ?_
      refine xr_iald (r := v28) F dX10_close_35 (fun v35 => ?_)
      refine xr_i2l F dX10_close_36 ?_
      refine xr_aload_n 1 (r := l1) F dX10_close_37 rfl ?_
      refine xr_iload 4 F dX10_close_38 rfl ?_
      refine xr_iconst (1 : Int32) F dX10_close_40 rfl ?_
      refine xr_isub F dX10_close_41 ?_
      refine xr_iald (r := l1) F dX10_close_42 (fun v42 => ?_)
      refine xr_i2l F dX10_close_43 ?_
      refine xr_lmul F dX10_close_44 ?_
      refine xr_ldc2 F dX10_close_45 q2939 ?_
      refine xr_ldiv F dX10_close_48 ?_
      refine xr_l2i F dX10_close_49 ?_
      refine xr_iast (r := v22) F dX10_close_50 ?_
      refine xr_aload_n 0 (r := (some l0)) F dX10_close_51 rfl ?_
      refine xr_dup F dX10_close_52 (xrf_cat _) ?_
      refine xr_gI (r := (some l0)) (ref := "ReserveLedger$Stock") F dX10_close_53 (C := RX10) (T := TX10) (N := 4) rfl (by decide) (Or.inl q2023) (Or.inl rfl) (fun v53 => ?_)
      refine xr_aload_n 0 (r := (some l0)) F dX10_close_56 rfl ?_
      refine xr_gR (r := (some l0)) (ref := "ReserveLedger$Stock") F dX10_close_57 (C := RX10) (T := TX10) (N := 4) rfl (by decide) (Or.inl q2019) (Or.inl rfl) (fun v57 => ?_)
      refine xr_iload 4 F dX10_close_60 rfl ?_
      refine xr_iald (r := v57) F dX10_close_62 (fun v62 => ?_)
      refine xr_iadd F dX10_close_63 ?_
      refine xr_put (r := (some l0)) (ref := "ReserveLedger$Stock") F dX10_close_64 xk_24 (by decide) (Or.inl q2023) (Or.inl rfl) (Or.inl rfl) ⟨rfl, rfl⟩ ?_
      refine xr_lload_n 3 F dX10_close_67 rfl ?_
      refine xr_aload_n 0 (r := (some l0)) F dX10_close_68 rfl ?_
      refine xr_gR (r := (some l0)) (ref := "ReserveLedger$Stock") F dX10_close_69 (C := RX10) (T := TX10) (N := 4) rfl (by decide) (Or.inl q2019) (Or.inl rfl) (fun v69 => ?_)
      refine xr_iload 4 F dX10_close_72 rfl ?_
      refine xr_iald (r := v69) F dX10_close_74 (fun v74 => ?_)
      refine xr_i2l F dX10_close_75 ?_
      refine xr_aload_n 0 (r := (some l0)) F dX10_close_76 rfl ?_
      refine xr_gR (r := (some l0)) (ref := "ReserveLedger$Stock") F dX10_close_77 (C := RX10) (T := TX10) (N := 4) rfl (by decide) (Or.inl q2018) (Or.inl rfl) (fun v77 => ?_)
      refine xr_gR (r := v77) (ref := "ReserveLedger$Species") F dX10_close_80 (C := RX7) (T := TX7) (N := 6) rfl (by decide) (Or.inr ⟨_, q1923⟩) (Or.inl rfl) (fun v80 => ?_)
      refine xr_iload 4 F dX10_close_83 rfl ?_
      refine xr_iald (r := v80) F dX10_close_85 (fun v85 => ?_)
      refine xr_i2l F dX10_close_86 ?_
      refine xr_lmul F dX10_close_87 ?_
      refine xr_ladd F dX10_close_88 ?_
      refine xr_letJ (fun x3_89 => ?_)
      refine xs_l_n [0, 1, 2, 4] F dX10_close_89 hnL rfl rfl (xk1 rfl rfl (xk1 rfl rfl (xk2 rfl rfl (xk1 rfl rfl xk0)))) (xk21 rfl (xk21 rfl (xk21 rfl (xk21 rfl xk20)))) ?_
      refine xs_inc [4, 0, 1, 2, 3] F dX10_close_90 rfl hnL rfl rfl (xk1 rfl rfl (xk1 rfl rfl (xk1 rfl rfl (xk1 rfl rfl xk0)))) (fun x5_90 => ?_)
      refine xr_goto 16 F dX10_close_93 rfl ?_
      exact xI.sub [2, 3, 4, 1, 0] rfl (ih l0 l1 l2 x3_89 x5_90)
theorem fX10_close_m {l : Launch} {D : xD} {s0 : State} {b0 : Nat} {Γ : Nat → Option Nat} (G : xG l D s0 b0 Γ) (a0 : Nat) (p0 : Option Nat) (p1 : Int32) : xMeth l D s0 Γ yX10_close (Cond.code yX10_close cX10_close 6 none) (2) (35) [.ref a0, va_rf p0, .int p1] xeV (fX10_close a0 p0 p1) := by
  refine xMeth.of (lv0 := [(0, va_rf (some a0)), (1, va_rf p0), (2, .int p1)]) G (by decide +kernel) (Or.inl rfl) (by simp [lg_sl, xrf_cat, xct_i, xct_l, xct_d, xct_r]) (by simp [lv_args, xrf_cat, xct_i, xct_l, xct_d, xct_r, xrf_some]) (fun x F hnL hRm hmn ht e1 e2 e3 e4 => ?_)
  have hno : ∀ pc, xNo x pc := fun pc z hz => by rw [ht.1 rfl] at hz; cases hz
  unfold fX10_close
  refine xr_aload_n 0 (r := (some a0)) F dX10_close_0 rfl ?_
  refine xr_iconst (0 : Int32) F dX10_close_1 rfl ?_
  refine xr_put (r := (some a0)) (ref := "ReserveLedger$Stock") F dX10_close_2 xk_24 (by decide) (Or.inl q2023) (Or.inl rfl) (Or.inl rfl) ⟨rfl, rfl⟩ ?_
  refine xr_lconst 0 F dX10_close_5 rfl ?_
  refine xr_letJ (fun x3_6 => ?_)
  refine xs_l_n [0, 1, 2] F dX10_close_6 hnL rfl rfl (xk1 rfl rfl (xk1 rfl rfl (xk2 rfl rfl xk0))) (xk21 rfl (xk21 rfl (xk21 rfl xk20))) ?_
  refine xr_aload_n 1 (r := (some a0)) F dX10_close_7 rfl ?_
  refine xr_gR (r := (some a0)) (ref := "ReserveLedger$Stock") F dX10_close_8 (C := RX10) (T := TX10) (N := 4) rfl (by decide) (Or.inl q2018) (Or.inl rfl) (fun v8 => ?_)
  refine xr_gI (r := v8) (ref := "ReserveLedger$Species") F dX10_close_11 (C := RX7) (T := TX7) (N := 6) rfl (by decide) (Or.inr ⟨_, q1919⟩) (Or.inl rfl) (fun v11 => ?_)
  refine xs_i [0, 1, 2, 3] F dX10_close_14 hnL rfl rfl (xk1 rfl rfl (xk1 rfl rfl (xk1 rfl rfl (xk1 rfl rfl xk0)))) ?_
  exact xI.sub [2, 3, 4, 1, 0] rfl (fX10_close_p16_ok F hnL hRm hno hmn xFU a0 p0 p1 x3_6 v11)
