theorem fX3_removesPlan_p16_ok {x : xC} (F : xF x RX3 cX3_removesPlan none) (hnL : xnL x = 3) (hRm : ∃ dc ds, x.2.2.2.1 = { frames := 1, cells := dc, slots := ds, locals := 12 }) (hno : ∀ pc, xNo x pc) (hmn : xmn x = "removesPlan" ∧ xmy x yX3_removesPlan) : ∀ (n : Nat) (l0 : Nat) (l2 : Int32), xI x xeV 16 [(0, va_rf (some l0)), (2, .int l2)] [] (fX3_removesPlan_p16 n l0 l2) := by
  intro n
  induction n with
  | zero => intro l0 l2; exact xI.stuck
  | succ n ih =>
    intro l0 l2
    unfold fX3_removesPlan_p16
    refine xr_iload_n 1 F dX3_removesPlan_16 rfl ?_
    refine xr_iconst (4 : Int32) F dX3_removesPlan_17 rfl ?_
    refine xr_iconst (5 : Int32) F dX3_removesPlan_18 rfl ?_
    refine xr_aload_n 0 (r := (some l0)) F dX3_removesPlan_19 rfl ?_
    refine xr_gR (r := (some l0)) (ref := "ReserveLedgerModel") F dX3_removesPlan_20 (C := RX3) (T := TX3) (N := 25) rfl (by decide) (Or.inl q3395) (Or.inl rfl) (fun v20 => ?_)
    refine xr_iconst (3 : Int32) F dX3_removesPlan_23 rfl ?_
    refine xr_iald (r := v20) F dX3_removesPlan_24 (fun v24 => ?_)
    refine xr_imul F dX3_removesPlan_25 ?_
    refine xr_iadd F dX3_removesPlan_26 ?_
    refine xr_icmp_ge 50 F dX3_removesPlan_27 rfl ?_ ?_
    · exact xr_vret F dX3_removesPlan_50
    · refine xr_aload_n 0 (r := (some l0)) F dX3_removesPlan_30 rfl ?_
      refine xr_gR (r := (some l0)) (ref := "ReserveLedgerModel") F dX3_removesPlan_31 (C := RX3) (T := TX3) (N := 25) rfl (by decide) (Or.inl q3395) (Or.inl rfl) (fun v31 => ?_)
      refine xr_iload_n 1 F dX3_removesPlan_34 rfl ?_
      refine xr_aload_n 0 (r := (some l0)) F dX3_removesPlan_35 rfl ?_
      refine xr_gR (r := (some l0)) (ref := "ReserveLedgerModel") F dX3_removesPlan_36 (C := RX3) (T := TX3) (N := 25) rfl (by decide) (Or.inl q3395) (Or.inl rfl) (fun v36 => ?_)
      refine xr_iload_n 1 F dX3_removesPlan_39 rfl ?_
      refine xr_iconst (5 : Int32) F dX3_removesPlan_40 rfl ?_
      refine xr_iadd F dX3_removesPlan_41 ?_
      refine xr_iald (r := v36) F dX3_removesPlan_42 (fun v42 => ?_)
      refine xr_iast (r := v31) F dX3_removesPlan_43 ?_
      refine xs_inc [1, 0] F dX3_removesPlan_44 rfl hnL rfl rfl (xk1 rfl rfl xk0) (fun x2_44 => ?_)
      refine xr_goto 16 F dX3_removesPlan_47 rfl ?_
      exact xI.sub [1, 0] rfl (ih l0 x2_44)
theorem fX3_removesPlan_m {l : Launch} {D : xD} {s0 : State} {b0 : Nat} {Γ : Nat → Option Nat} (G : xG l D s0 b0 Γ) (a0 : Nat) (p0 : Int32) : xMeth l D s0 Γ yX3_removesPlan (Cond.code yX3_removesPlan cX3_removesPlan 3 none) (1) (12) [.ref a0, .int p0] xeV (fX3_removesPlan a0 p0) := by
  refine xMeth.of (lv0 := [(0, va_rf (some a0)), (1, .int p0)]) G (by decide +kernel) (Or.inl rfl) (Nat.le_of_ble_eq_true rfl) rfl (fun x F hnL hRm hmn ht e1 e2 e3 e4 => ?_)
  have hno : ∀ pc, xNo x pc := fun pc z hz => by rw [ht.1 rfl] at hz; cases hz
  unfold fX3_removesPlan
  refine xr_aload_n 0 (r := (some a0)) F dX3_removesPlan_0 rfl ?_
  refine xr_gR (r := (some a0)) (ref := "ReserveLedgerModel") F dX3_removesPlan_1 (C := RX3) (T := TX3) (N := 25) rfl (by decide) (Or.inl q3395) (Or.inl rfl) (fun v1 => ?_)
  refine xr_iconst (3 : Int32) F dX3_removesPlan_4 rfl ?_
  refine xr_dup2_11 F dX3_removesPlan_5 rfl (xrf_cat _) ?_
  refine xr_iald (r := v1) F dX3_removesPlan_6 (fun v6 => ?_)
  refine xr_iconst (1 : Int32) F dX3_removesPlan_7 rfl ?_
  refine xr_isub F dX3_removesPlan_8 ?_
  refine xr_iast (r := v1) F dX3_removesPlan_9 ?_
  refine xr_iconst (4 : Int32) F dX3_removesPlan_10 rfl ?_
  refine xr_iconst (5 : Int32) F dX3_removesPlan_11 rfl ?_
  refine xr_iload_n 1 F dX3_removesPlan_12 rfl ?_
  refine xr_imul F dX3_removesPlan_13 ?_
  refine xr_iadd F dX3_removesPlan_14 ?_
  refine xr_letI (fun x2_15 => ?_)
  refine xs_i_n [0] F dX3_removesPlan_15 hnL rfl rfl (xk1 rfl rfl xk0) ?_
  exact xI.sub [1, 0] rfl (fX3_removesPlan_p16_ok F hnL hRm hno hmn xFU a0 x2_15)
theorem fX3_carriesOutAll_p2_ok {x : xC} (F : xF x RX3 cX3_carriesOutAll (some .int)) (hnL : xnL x = 2) (hRm : ∃ dc ds, x.2.2.2.1 = { frames := 8, cells := dc, slots := ds, locals := 176 }) (hno : ∀ pc, xNo x pc) (hmn : xmn x = "carriesOutAll" ∧ xmy x yX3_carriesOutAll) : ∀ (n : Nat) (l0 : Nat) (l1 : Int32), xI x xeI 2 [(0, va_rf (some l0)), (1, .int l1)] [] (fX3_carriesOutAll_p2 n l0 l1) := by
  intro n
  induction n with
  | zero => intro l0 l1; exact xI.stuck
  | succ n ih =>
    intro l0 l1
    unfold fX3_carriesOutAll_p2
    refine xr_aload_n 0 (r := (some l0)) F dX3_carriesOutAll_2 rfl ?_
    refine xr_gR (r := (some l0)) (ref := "ReserveLedgerModel") F dX3_carriesOutAll_3 (C := RX3) (T := TX3) (N := 25) rfl (by decide) (Or.inl q3395) (Or.inl rfl) (fun v3 => ?_)
    refine xr_iconst (3 : Int32) F dX3_carriesOutAll_6 rfl ?_
    refine xr_iald (r := v3) F dX3_carriesOutAll_7 (fun v7 => ?_)
    refine xr_if_le 42 F dX3_carriesOutAll_8 rfl ?_ ?_
    · refine xr_iload_n 1 F dX3_carriesOutAll_42 rfl ?_
      exact xr_iret F dX3_carriesOutAll_43
    · refine xr_aload_n 0 (r := (some l0)) F dX3_carriesOutAll_11 rfl ?_
      refine xr_gR (r := (some l0)) (ref := "ReserveLedgerModel") F dX3_carriesOutAll_12 (C := RX3) (T := TX3) (N := 25) rfl (by decide) (Or.inl q3395) (Or.inl rfl) (fun v12 => ?_)
      refine xr_iconst (4 : Int32) F dX3_carriesOutAll_15 rfl ?_
      refine xr_iald (r := v12) F dX3_carriesOutAll_16 (fun v16 => ?_)
      refine xr_aload_n 0 (r := (some l0)) F dX3_carriesOutAll_17 rfl ?_
      refine xr_gR (r := (some l0)) (ref := "ReserveLedgerModel") F dX3_carriesOutAll_18 (C := RX3) (T := TX3) (N := 25) rfl (by decide) (Or.inl q3395) (Or.inl rfl) (fun v18 => ?_)
      refine xr_iconst (1 : Int32) F dX3_carriesOutAll_21 rfl ?_
      refine xr_iald (r := v18) F dX3_carriesOutAll_22 (fun v22 => ?_)
      refine xr_icmp_ne 42 F dX3_carriesOutAll_23 rfl ?_ ?_
      · refine xr_aload_n 0 (r := (some l0)) F dX3_carriesOutAll_26 rfl ?_
        refine xr_iconst (4 : Int32) F dX3_carriesOutAll_27 rfl ?_
        refine xr_VV (y := yX3_carriesOut) (As := [.int (4 : Int32)]) (r := (some l0)) F (hno _) dX3_carriesOutAll_28 (fun z => fX3_carriesOut_m (xFG F) z (4 : Int32)) (Or.inl rfl) (ci := 39) (C := RX3) (T := TX3) rfl q3889 q3886 q3888 qs110 (xroom hRm (Nat.le_of_ble_eq_true rfl) (Nat.le_of_ble_eq_true rfl)) ⟨by decide, by decide⟩ n_X3_carriesOut rfl (xcat (Nat.le_of_ble_eq_true rfl)) (fun _ => ?_)
        refine xr_aload_n 0 (r := (some l0)) F dX3_carriesOutAll_31 rfl ?_
        refine xr_iconst (0 : Int32) F dX3_carriesOutAll_32 rfl ?_
        refine xr_VV (y := yX3_removesPlan) (As := [.int (0 : Int32)]) (r := (some l0)) F (hno _) dX3_carriesOutAll_33 (fun z => fX3_removesPlan_m (xFG F) z (0 : Int32)) (Or.inl rfl) (ci := 39) (C := RX3) (T := TX3) rfl q3906 q3903 q3905 qs114 (xroom hRm (Nat.le_of_ble_eq_true rfl) (Nat.le_of_ble_eq_true rfl)) ⟨by decide, by decide⟩ n_X3_removesPlan rfl (xcat (Nat.le_of_ble_eq_true rfl)) (fun _ => ?_)
        refine xs_inc [1, 0] F dX3_carriesOutAll_36 rfl hnL rfl rfl (xk2 rfl (xrf_cat _) xk0) (fun x1_36 => ?_)
        refine xr_goto 2 F dX3_carriesOutAll_39 rfl ?_
        exact xI.sub [1, 0] rfl (ih l0 x1_36)
      · refine xr_iload_n 1 F dX3_carriesOutAll_42 rfl ?_
        exact xr_iret F dX3_carriesOutAll_43
theorem fX3_carriesOutAll_m {l : Launch} {D : xD} {s0 : State} {b0 : Nat} {Γ : Nat → Option Nat} (G : xG l D s0 b0 Γ) (a0 : Nat) : xMeth l D s0 Γ yX3_carriesOutAll (Cond.code yX3_carriesOutAll cX3_carriesOutAll 2 (some .int)) (8) (176) [.ref a0] xeI (fX3_carriesOutAll a0) := by
  refine xMeth.of (lv0 := [(0, va_rf (some a0))]) G (by decide +kernel) (Or.inl rfl) (Nat.le_of_ble_eq_true rfl) rfl (fun x F hnL hRm hmn ht e1 e2 e3 e4 => ?_)
  have hno : ∀ pc, xNo x pc := fun pc z hz => by rw [ht.1 rfl] at hz; cases hz
  unfold fX3_carriesOutAll
  refine xr_iconst (0 : Int32) F dX3_carriesOutAll_0 rfl ?_
  refine xr_letI (fun x1_1 => ?_)
  refine xs_i_n [0] F dX3_carriesOutAll_1 hnL rfl rfl (xk2 rfl (xrf_cat _) xk0) ?_
  exact xI.sub [1, 0] rfl (fX3_carriesOutAll_p2_ok F hnL hRm hno hmn xFU a0 x1_1)
theorem fX3_closes_p42_ok {x : xC} (F : xF x RX3 cX3_closes (some .int)) (hnL : xnL x = 4) (hRm : ∃ dc ds, x.2.2.2.1 = { frames := 9, cells := dc, slots := ds, locals := 197 }) (hno : ∀ pc, xNo x pc) (hmn : xmn x = "closes" ∧ xmy x yX3_closes) {k30 : Nat → Int32 → Int32 → xM (Int32)} (hk30 : ∀ (l0 : Nat) (l1 : Int32) (l2 : Int32), xI x xeI 30 [(0, va_rf (some l0)), (1, .int l1), (2, .int l2)] [] (k30 l0 l1 l2)) : ∀ (n : Nat) (l0 : Nat) (l1 : Int32) (l2 : Int32) (l3 : Int32), xI x xeI 42 [(0, va_rf (some l0)), (1, .int l1), (2, .int l2), (3, .int l3)] [] (fX3_closes_p42 k30 n l0 l1 l2 l3) := by
  intro n
  induction n with
  | zero => intro l0 l1 l2 l3; exact xI.stuck
  | succ n ih =>
    intro l0 l1 l2 l3
    unfold fX3_closes_p42
    refine xr_iload_n 3 F dX3_closes_42 rfl ?_
    refine xr_bipush (7 : Int32) F dX3_closes_43 rfl ?_
    refine xr_icmp_ge 80 F dX3_closes_45 rfl ?_ ?_
    · refine xs_inc [2, 0, 1] F dX3_closes_80 rfl hnL rfl rfl (xk1 rfl rfl (xk2 rfl rfl xk0)) (fun x2_80 => ?_)
      refine xr_goto 30 F dX3_closes_83 rfl ?_
      exact xI.sub [1, 2, 0] rfl (hk30 l0 l1 x2_80)
    · refine xr_aload_n 0 (r := (some l0)) F dX3_closes_48 rfl ?_
      refine xr_gR (r := (some l0)) (ref := "ReserveLedgerModel") F dX3_closes_49 (C := RX3) (T := TX3) (N := 25) rfl (by decide) (Or.inl q3399) (Or.inl rfl) (fun v49 => ?_)
      refine xr_aload_n 0 (r := (some l0)) F dX3_closes_52 rfl ?_
      refine xr_gR (r := (some l0)) (ref := "ReserveLedgerModel") F dX3_closes_53 (C := RX3) (T := TX3) (N := 25) rfl (by decide) (Or.inl q3395) (Or.inl rfl) (fun v53 => ?_)
      refine xr_iconst (2 : Int32) F dX3_closes_56 rfl ?_
      refine xr_iald (r := v53) F dX3_closes_57 (fun v57 => ?_)
      refine xr_iconst (4 : Int32) F dX3_closes_58 rfl ?_
      refine xr_imul F dX3_closes_59 ?_
      refine xr_iload_n 2 F dX3_closes_60 rfl ?_
      refine xr_iadd F dX3_closes_61 ?_
      refine xr_bipush (7 : Int32) F dX3_closes_62 rfl ?_
      refine xr_imul F dX3_closes_64 ?_
      refine xr_iload_n 3 F dX3_closes_65 rfl ?_
      refine xr_iadd F dX3_closes_66 ?_
      refine xr_aload_n 0 (r := (some l0)) F dX3_closes_67 rfl ?_
      refine xr_iload_n 2 F dX3_closes_68 rfl ?_
      refine xr_iload_n 3 F dX3_closes_69 rfl ?_
      refine xr_VI (y := yX3_part) (As := [.int l2, .int l3]) (r := (some l0)) F (hno _) dX3_closes_70 (fun z => fX3_part_m (xFG F) z l2 l3) (Or.inl rfl) (ci := 39) (C := RX3) (T := TX3) rfl q3762 q3759 q3761 qs95 (xroom hRm (Nat.le_of_ble_eq_true rfl) (Nat.le_of_ble_eq_true rfl)) ⟨by decide, by decide⟩ n_X3_part rfl (xcat (Nat.le_of_ble_eq_true rfl)) (fun v70 => ?_)
      refine xr_iast (r := v49) F dX3_closes_73 ?_
      refine xs_inc [3, 0, 1, 2] F dX3_closes_74 rfl hnL rfl rfl (xk1 rfl rfl (xk1 rfl rfl (xk2 rfl rfl xk0))) (fun x3_74 => ?_)
      refine xr_goto 42 F dX3_closes_77 rfl ?_
      exact xI.sub [1, 2, 3, 0] rfl (ih l0 l1 l2 x3_74)
theorem fX3_closes_p108_ok {x : xC} (F : xF x RX3 cX3_closes (some .int)) (hnL : xnL x = 4) (hRm : ∃ dc ds, x.2.2.2.1 = { frames := 9, cells := dc, slots := ds, locals := 197 }) (hno : ∀ pc, xNo x pc) (hmn : xmn x = "closes" ∧ xmy x yX3_closes) : ∀ (n : Nat) (l0 : Nat) (l1 : Int32) (l2 : Int32), xI x xeI 108 [(0, va_rf (some l0)), (1, .int l1), (2, .int l2)] [] (fX3_closes_p108 n l0 l1 l2) := by
  intro n
  induction n with
  | zero => intro l0 l1 l2; exact xI.stuck
  | succ n ih =>
    intro l0 l1 l2
    unfold fX3_closes_p108
    refine xr_iload_n 2 F dX3_closes_108 rfl ?_
    refine xr_aload_n 0 (r := (some l0)) F dX3_closes_109 rfl ?_
    refine xr_gR (r := (some l0)) (ref := "ReserveLedgerModel") F dX3_closes_110 (C := RX3) (T := TX3) (N := 25) rfl (by decide) (Or.inl q3395) (Or.inl rfl) (fun v110 => ?_)
    refine xr_iconst (0 : Int32) F dX3_closes_113 rfl ?_
    refine xr_iald (r := v110) F dX3_closes_114 (fun v114 => ?_)
    refine xr_icmp_ge 129 F dX3_closes_115 rfl ?_ ?_
    · refine xr_iload_n 1 F dX3_closes_129 rfl ?_
      exact xr_iret F dX3_closes_130
    · refine xr_aload_n 0 (r := (some l0)) F dX3_closes_118 rfl ?_
      refine xr_iload_n 2 F dX3_closes_119 rfl ?_
      refine xr_VV (y := yX3_opens) (As := [.int l2]) (r := (some l0)) F (hno _) dX3_closes_120 (fun z => fX3_opens_m (xFG F) z l2) (Or.inl rfl) (ci := 39) (C := RX3) (T := TX3) rfl q3642 q3639 q3641 qs81 (xroom hRm (Nat.le_of_ble_eq_true rfl) (Nat.le_of_ble_eq_true rfl)) ⟨by decide, by decide⟩ n_X3_opens rfl (xcat (Nat.le_of_ble_eq_true rfl)) (fun _ => ?_)
      refine xs_inc [2, 0, 1] F dX3_closes_123 rfl hnL rfl rfl (xk1 rfl rfl (xk2 rfl rfl xk0)) (fun x2_123 => ?_)
      refine xr_goto 108 F dX3_closes_126 rfl ?_
      exact xI.sub [1, 2, 0] rfl (ih l0 l1 x2_123)
theorem fX3_closes_p30_ok {x : xC} (F : xF x RX3 cX3_closes (some .int)) (hnL : xnL x = 4) (hRm : ∃ dc ds, x.2.2.2.1 = { frames := 9, cells := dc, slots := ds, locals := 197 }) (hno : ∀ pc, xNo x pc) (hmn : xmn x = "closes" ∧ xmy x yX3_closes) : ∀ (n : Nat) (l0 : Nat) (l1 : Int32) (l2 : Int32), xI x xeI 30 [(0, va_rf (some l0)), (1, .int l1), (2, .int l2)] [] (fX3_closes_p30 n l0 l1 l2) := by
  intro n
  induction n with
  | zero => intro l0 l1 l2; exact xI.stuck
  | succ n ih =>
    intro l0 l1 l2
    unfold fX3_closes_p30
    refine xr_iload_n 2 F dX3_closes_30 rfl ?_
    refine xr_aload_n 0 (r := (some l0)) F dX3_closes_31 rfl ?_
    refine xr_gR (r := (some l0)) (ref := "ReserveLedgerModel") F dX3_closes_32 (C := RX3) (T := TX3) (N := 25) rfl (by decide) (Or.inl q3395) (Or.inl rfl) (fun v32 => ?_)
    refine xr_iconst (0 : Int32) F dX3_closes_35 rfl ?_
    refine xr_iald (r := v32) F dX3_closes_36 (fun v36 => ?_)
    refine xr_icmp_ge 86 F dX3_closes_37 rfl ?_ ?_
    · refine xr_aload_n 0 (r := (some l0)) F dX3_closes_86 rfl ?_
      refine xr_gR (r := (some l0)) (ref := "ReserveLedgerModel") F dX3_closes_87 (C := RX3) (T := TX3) (N := 25) rfl (by decide) (Or.inl q3395) (Or.inl rfl) (fun v87 => ?_)
      refine xr_iconst (2 : Int32) F dX3_closes_90 rfl ?_
      refine xr_dup2_11 F dX3_closes_91 rfl (xrf_cat _) ?_
      refine xr_iald (r := v87) F dX3_closes_92 (fun v92 => ?_)
      refine xr_iconst (1 : Int32) F dX3_closes_93 rfl ?_
      refine xr_iadd F dX3_closes_94 ?_
      refine xr_iast (r := v87) F dX3_closes_95 ?_
      refine xr_aload_n 0 (r := (some l0)) F dX3_closes_96 rfl ?_
      refine xr_gR (r := (some l0)) (ref := "ReserveLedgerModel") F dX3_closes_97 (C := RX3) (T := TX3) (N := 25) rfl (by decide) (Or.inl q3395) (Or.inl rfl) (fun v97 => ?_)
      refine xr_iconst (1 : Int32) F dX3_closes_100 rfl ?_
      refine xr_dup2_11 F dX3_closes_101 rfl (xrf_cat _) ?_
      refine xr_iald (r := v97) F dX3_closes_102 (fun v102 => ?_)
      refine xr_iconst (1 : Int32) F dX3_closes_103 rfl ?_
      refine xr_iadd F dX3_closes_104 ?_
      refine xr_iast (r := v97) F dX3_closes_105 ?_
      refine xr_iconst (0 : Int32) F dX3_closes_106 rfl ?_
      refine xr_letI (fun x2_107 => ?_)
      refine xs_i_n [0, 1] F dX3_closes_107 hnL rfl rfl (xk1 rfl rfl (xk2 rfl rfl xk0)) ?_
      exact xI.sub [1, 2, 0] rfl (fX3_closes_p108_ok F hnL hRm hno hmn xFU l0 l1 x2_107)
    · refine xr_iconst (0 : Int32) F dX3_closes_40 rfl ?_
      refine xr_letI (fun x3_41 => ?_)
      refine xs_i_n [0, 1, 2] F dX3_closes_41 hnL rfl rfl (xk1 rfl rfl (xk1 rfl rfl (xk2 rfl rfl xk0))) ?_
      exact xI.sub [1, 2, 3, 0] rfl (fX3_closes_p42_ok F hnL hRm hno hmn ih xFU l0 l1 l2 x3_41)
theorem fX3_closes_p7_ok {x : xC} (F : xF x RX3 cX3_closes (some .int)) (hnL : xnL x = 4) (hRm : ∃ dc ds, x.2.2.2.1 = { frames := 9, cells := dc, slots := ds, locals := 197 }) (hno : ∀ pc, xNo x pc) (hmn : xmn x = "closes" ∧ xmy x yX3_closes) : ∀ (n : Nat) (l0 : Nat) (l1 : Int32) (l2 : Int32), xI x xeI 7 [(0, va_rf (some l0)), (1, .int l1), (2, .int l2)] [] (fX3_closes_p7 n l0 l1 l2) := by
  intro n
  induction n with
  | zero => intro l0 l1 l2; exact xI.stuck
  | succ n ih =>
    intro l0 l1 l2
    unfold fX3_closes_p7
    refine xr_iload_n 2 F dX3_closes_7 rfl ?_
    refine xr_aload_n 0 (r := (some l0)) F dX3_closes_8 rfl ?_
    refine xr_gR (r := (some l0)) (ref := "ReserveLedgerModel") F dX3_closes_9 (C := RX3) (T := TX3) (N := 25) rfl (by decide) (Or.inl q3395) (Or.inl rfl) (fun v9 => ?_)
    refine xr_iconst (0 : Int32) F dX3_closes_12 rfl ?_
    refine xr_iald (r := v9) F dX3_closes_13 (fun v13 => ?_)
    refine xr_icmp_ge 28 F dX3_closes_14 rfl ?_ ?_
    · refine xr_iconst (0 : Int32) F dX3_closes_28 rfl ?_
      refine xr_letI (fun x2_29 => ?_)
      refine xs_i_n [0, 1] F dX3_closes_29 hnL rfl rfl (xk1 rfl rfl (xk2 rfl rfl xk0)) ?_
      exact xI.sub [1, 2, 0] rfl (fX3_closes_p30_ok F hnL hRm hno hmn xFU l0 l1 x2_29)
    · refine xr_aload_n 0 (r := (some l0)) F dX3_closes_17 rfl ?_
      refine xr_iload_n 2 F dX3_closes_18 rfl ?_
      refine xr_VV (y := yX3_ages) (As := [.int l2]) (r := (some l0)) F (hno _) dX3_closes_19 (fun z => fX3_ages_m (xFG F) z l2) (Or.inl rfl) (ci := 39) (C := RX3) (T := TX3) rfl q3838 q3835 q3837 qs103 (xroom hRm (Nat.le_of_ble_eq_true rfl) (Nat.le_of_ble_eq_true rfl)) ⟨by decide, by decide⟩ n_X3_ages rfl (xcat (Nat.le_of_ble_eq_true rfl)) (fun _ => ?_)
      refine xs_inc [2, 0, 1] F dX3_closes_22 rfl hnL rfl rfl (xk1 rfl rfl (xk2 rfl rfl xk0)) (fun x2_22 => ?_)
      refine xr_goto 7 F dX3_closes_25 rfl ?_
      exact xI.sub [1, 2, 0] rfl (ih l0 l1 x2_22)
theorem fX3_closes_m {l : Launch} {D : xD} {s0 : State} {b0 : Nat} {Γ : Nat → Option Nat} (G : xG l D s0 b0 Γ) (a0 : Nat) : xMeth l D s0 Γ yX3_closes (Cond.code yX3_closes cX3_closes 4 (some .int)) (9) (197) [.ref a0] xeI (fX3_closes a0) := by
  refine xMeth.of (lv0 := [(0, va_rf (some a0))]) G (by decide +kernel) (Or.inl rfl) (Nat.le_of_ble_eq_true rfl) rfl (fun x F hnL hRm hmn ht e1 e2 e3 e4 => ?_)
  have hno : ∀ pc, xNo x pc := fun pc z hz => by rw [ht.1 rfl] at hz; cases hz
  unfold fX3_closes
  refine xr_aload_n 0 (r := (some a0)) F dX3_closes_0 rfl ?_
  refine xr_VI (y := yX3_carriesOutAll) (As := []) (r := (some a0)) F (hno _) dX3_closes_1 (fun z => fX3_carriesOutAll_m (xFG F) z) (Or.inl rfl) (ci := 39) (C := RX3) (T := TX3) rfl q3885 q3882 q3884 qs109 (xroom hRm (Nat.le_of_ble_eq_true rfl) (Nat.le_of_ble_eq_true rfl)) ⟨by decide, by decide⟩ n_X3_carriesOutAll rfl (xcat (Nat.le_of_ble_eq_true rfl)) (fun v1 => ?_)
  refine xs_i_n [0] F dX3_closes_4 hnL rfl rfl (xk2 rfl (xrf_cat _) xk0) ?_
  refine xr_iconst (0 : Int32) F dX3_closes_5 rfl ?_
  refine xr_letI (fun x2_6 => ?_)
  refine xs_i_n [0, 1] F dX3_closes_6 hnL rfl rfl (xk2 rfl rfl (xk1 rfl rfl xk0)) ?_
  exact xI.sub [2, 1, 0] rfl (fX3_closes_p7_ok F hnL hRm hno hmn xFU a0 v1 x2_6)
theorem fX3_keeps_p52_ok {x : xC} (F : xF x RX3 cX3_keeps none) (hnL : xnL x = 2) (hRm : ∃ dc ds, x.2.2.2.1 = { frames := 2, cells := dc, slots := ds, locals := 37 }) (hno : ∀ pc, xNo x pc) (hmn : xmn x = "keeps" ∧ xmy x yX3_keeps) (l0 : Nat) : xI x xeV 52 [(0, va_rf (some l0))] [] (fX3_keeps_p52 l0) := by
  unfold fX3_keeps_p52
  refine xr_aload_n 0 (r := (some l0)) F dX3_keeps_52 rfl ?_
  refine xr_aload_n 0 (r := (some l0)) F dX3_keeps_53 rfl ?_
  refine xr_gR (r := (some l0)) (ref := "ReserveLedgerModel") F dX3_keeps_54 (C := RX3) (T := TX3) (N := 25) rfl (by decide) (Or.inl q3395) (Or.inl rfl) (fun v54 => ?_)
  refine xr_iconst (0 : Int32) F dX3_keeps_57 rfl ?_
  refine xr_aload_n 0 (r := (some l0)) F dX3_keeps_58 rfl ?_
  refine xr_gR (r := (some l0)) (ref := "ReserveLedgerModel") F dX3_keeps_59 (C := RX3) (T := TX3) (N := 25) rfl (by decide) (Or.inl q3397) (Or.inl rfl) (fun v59 => ?_)
  refine xr_sipush (592 : Int32) F dX3_keeps_62 rfl ?_
  refine xr_aload_n 0 (r := (some l0)) F dX3_keeps_65 rfl ?_
  refine xr_gI (r := (some l0)) (ref := "ReserveLedgerModel") F dX3_keeps_66 (C := RX3) (T := TX3) (N := 25) rfl (by decide) (Or.inl q3398) (Or.inl rfl) (fun v66 => ?_)
  refine xr_imul F dX3_keeps_69 ?_
  refine xr_VV (y := yX3_copies) (As := [va_rf v54, .int (0 : Int32), va_rf v59, .int ((592 : Int32) * v66)]) (r := (some l0)) F (hno _) dX3_keeps_70 (fun z => fX3_copies_m (xFG F) z v54 (0 : Int32) v59 ((592 : Int32) * v66)) (Or.inl rfl) (ci := 39) (C := RX3) (T := TX3) rfl q3478 q3475 q3477 qs52 (xroom hRm (Nat.le_of_ble_eq_true rfl) (Nat.le_of_ble_eq_true rfl)) ⟨by decide, by decide⟩ n_X3_copies rfl (xcat (Nat.le_of_ble_eq_true rfl)) (fun _ => ?_)
  refine xr_aload_n 0 (r := (some l0)) F dX3_keeps_73 rfl ?_
  refine xr_dup F dX3_keeps_74 (xrf_cat _) ?_
  refine xr_gI (r := (some l0)) (ref := "ReserveLedgerModel") F dX3_keeps_75 (C := RX3) (T := TX3) (N := 25) rfl (by decide) (Or.inl q3398) (Or.inl rfl) (fun v75 => ?_)
  refine xr_iconst (1 : Int32) F dX3_keeps_78 rfl ?_
  refine xr_iadd F dX3_keeps_79 ?_
  refine xr_put (r := (some l0)) (ref := "ReserveLedgerModel") F dX3_keeps_80 xk_39 (by decide) (Or.inl q3398) (Or.inl rfl) (Or.inl rfl) ⟨rfl, rfl⟩ ?_
  exact xr_vret F dX3_keeps_83
theorem fX3_keeps_p13_ok {x : xC} (F : xF x RX3 cX3_keeps none) (hnL : xnL x = 2) (hRm : ∃ dc ds, x.2.2.2.1 = { frames := 2, cells := dc, slots := ds, locals := 37 }) (hno : ∀ pc, xNo x pc) (hmn : xmn x = "keeps" ∧ xmy x yX3_keeps) : ∀ (n : Nat) (l0 : Nat) (l1 : Int32), xI x xeV 13 [(0, va_rf (some l0)), (1, .int l1)] [] (fX3_keeps_p13 n l0 l1) := by
  intro n
  induction n with
  | zero => intro l0 l1; exact xI.stuck
  | succ n ih =>
    intro l0 l1
    unfold fX3_keeps_p13
    refine xr_iload_n 1 F dX3_keeps_13 rfl ?_
    refine xr_sipush (4736 : Int32) F dX3_keeps_14 rfl ?_
    refine xr_icmp_ge 42 F dX3_keeps_17 rfl ?_ ?_
    · refine xr_aload_n 0 (r := (some l0)) F dX3_keeps_42 rfl ?_
      refine xr_dup F dX3_keeps_43 (xrf_cat _) ?_
      refine xr_gI (r := (some l0)) (ref := "ReserveLedgerModel") F dX3_keeps_44 (C := RX3) (T := TX3) (N := 25) rfl (by decide) (Or.inl q3398) (Or.inl rfl) (fun v44 => ?_)
      refine xr_iconst (1 : Int32) F dX3_keeps_47 rfl ?_
      refine xr_isub F dX3_keeps_48 ?_
      refine xr_put (r := (some l0)) (ref := "ReserveLedgerModel") F dX3_keeps_49 xk_39 (by decide) (Or.inl q3398) (Or.inl rfl) (Or.inl rfl) ⟨rfl, rfl⟩ ?_
      exact xI.sub [0] rfl (fX3_keeps_p52_ok F hnL hRm hno hmn l0)
    · refine xr_aload_n 0 (r := (some l0)) F dX3_keeps_20 rfl ?_
      refine xr_gR (r := (some l0)) (ref := "ReserveLedgerModel") F dX3_keeps_21 (C := RX3) (T := TX3) (N := 25) rfl (by decide) (Or.inl q3397) (Or.inl rfl) (fun v21 => ?_)
      refine xr_iload_n 1 F dX3_keeps_24 rfl ?_
      refine xr_sipush (592 : Int32) F dX3_keeps_25 rfl ?_
      refine xr_isub F dX3_keeps_28 ?_
      refine xr_aload_n 0 (r := (some l0)) F dX3_keeps_29 rfl ?_
      refine xr_gR (r := (some l0)) (ref := "ReserveLedgerModel") F dX3_keeps_30 (C := RX3) (T := TX3) (N := 25) rfl (by decide) (Or.inl q3397) (Or.inl rfl) (fun v30 => ?_)
      refine xr_iload_n 1 F dX3_keeps_33 rfl ?_
      refine xr_iald (r := v30) F dX3_keeps_34 (fun v34 => ?_)
      refine xr_iast (r := v21) F dX3_keeps_35 ?_
      refine xs_inc [1, 0] F dX3_keeps_36 rfl hnL rfl rfl (xk2 rfl (xrf_cat _) xk0) (fun x1_36 => ?_)
      refine xr_goto 13 F dX3_keeps_39 rfl ?_
      exact xI.sub [1, 0] rfl (ih l0 x1_36)
theorem fX3_keeps_m {l : Launch} {D : xD} {s0 : State} {b0 : Nat} {Γ : Nat → Option Nat} (G : xG l D s0 b0 Γ) (a0 : Nat) : xMeth l D s0 Γ yX3_keeps (Cond.code yX3_keeps cX3_keeps 2 none) (2) (37) [.ref a0] xeV (fX3_keeps a0) := by
  refine xMeth.of (lv0 := [(0, va_rf (some a0))]) G (by decide +kernel) (Or.inl rfl) (Nat.le_of_ble_eq_true rfl) rfl (fun x F hnL hRm hmn ht e1 e2 e3 e4 => ?_)
  have hno : ∀ pc, xNo x pc := fun pc z hz => by rw [ht.1 rfl] at hz; cases hz
  unfold fX3_keeps
  refine xr_aload_n 0 (r := (some a0)) F dX3_keeps_0 rfl ?_
  refine xr_gI (r := (some a0)) (ref := "ReserveLedgerModel") F dX3_keeps_1 (C := RX3) (T := TX3) (N := 25) rfl (by decide) (Or.inl q3398) (Or.inl rfl) (fun v1 => ?_)
  refine xr_bipush (8 : Int32) F dX3_keeps_4 rfl ?_
  refine xr_icmp_ne 52 F dX3_keeps_6 rfl ?_ ?_
  · refine xr_sipush (592 : Int32) F dX3_keeps_9 rfl ?_
    refine xr_letI (fun x1_12 => ?_)
    refine xs_i_n [0] F dX3_keeps_12 hnL rfl rfl (xk2 rfl (xrf_cat _) xk0) ?_
    exact xI.sub [1, 0] rfl (fX3_keeps_p13_ok F hnL hRm hno hmn xFU a0 x1_12)
  · exact xI.sub [0] rfl (fX3_keeps_p52_ok F hnL hRm hno hmn a0)
theorem fX3_pass_p67_ok {x : xC} (F : xF x RX3 cX3_pass (some .int)) (hnL : xnL x = 4) (hRm : ∃ dc ds, x.2.2.2.1 = { frames := 10, cells := dc, slots := ds, locals := 220 }) (hno : ∀ pc, xNo x pc) (hmn : xmn x = "pass" ∧ xmy x yX3_pass) : ∀ (n : Nat) (l0 : Nat) (l1 : Int32) (l2 : Int32) (l3 : Int32), xI x xeI 67 [(0, va_rf (some l0)), (1, .int l1), (2, .int l2), (3, .int l3)] [] (fX3_pass_p67 n l0 l1 l2 l3) := by
  intro n
  induction n with
  | zero => intro l0 l1 l2 l3; exact xI.stuck
  | succ n ih =>
    intro l0 l1 l2 l3
    unfold fX3_pass_p67
    refine xr_iload_n 3 F dX3_pass_67 rfl ?_
    refine xr_iload_n 1 F dX3_pass_68 rfl ?_
    refine xr_icmp_ge 85 F dX3_pass_69 rfl ?_ ?_
    · refine xr_iload_n 2 F dX3_pass_85 rfl ?_
      exact xr_iret F dX3_pass_86
    · refine xr_iload_n 2 F dX3_pass_72 rfl ?_
      refine xr_aload_n 0 (r := (some l0)) F dX3_pass_73 rfl ?_
      refine xr_VI (y := yX3_closes) (As := []) (r := (some l0)) F (hno _) dX3_pass_74 (fun z => fX3_closes_m (xFG F) z) (Or.inl rfl) (ci := 39) (C := RX3) (T := TX3) rfl q3881 q3878 q3880 qs108 (xroom hRm (Nat.le_of_ble_eq_true rfl) (Nat.le_of_ble_eq_true rfl)) ⟨by decide, by decide⟩ n_X3_closes rfl (xcat (Nat.le_of_ble_eq_true rfl)) (fun v74 => ?_)
      refine xr_iadd F dX3_pass_77 ?_
      refine xr_letI (fun x2_78 => ?_)
      refine xs_i_n [0, 1, 3] F dX3_pass_78 hnL rfl rfl (xk1 rfl rfl (xk2 rfl rfl (xk1 rfl rfl xk0))) ?_
      refine xs_inc [3, 0, 1, 2] F dX3_pass_79 rfl hnL rfl rfl (xk2 rfl rfl (xk1 rfl rfl (xk1 rfl rfl xk0))) (fun x3_79 => ?_)
      refine xr_goto 67 F dX3_pass_82 rfl ?_
      exact xI.sub [2, 3, 1, 0] rfl (ih l0 l1 x2_78 x3_79)
theorem fX3_pass_p50_ok {x : xC} (F : xF x RX3 cX3_pass (some .int)) (hnL : xnL x = 4) (hRm : ∃ dc ds, x.2.2.2.1 = { frames := 10, cells := dc, slots := ds, locals := 220 }) (hno : ∀ pc, xNo x pc) (hmn : xmn x = "pass" ∧ xmy x yX3_pass) (l0 : Nat) (l1 : Int32) (s0 : Int32) (s1 : Nat) : xI x xeI 50 [(0, va_rf (some l0)), (1, .int l1)] [.int s0, va_rf (some s1)] (fX3_pass_p50 l0 l1 s0 s1) := by
  unfold fX3_pass_p50
  refine xr_iconst (2 : Int32) F dX3_pass_50 rfl ?_
  refine xr_VI (y := yX3_throwsIf) (As := [.int s0, .int (2 : Int32)]) (r := (some s1)) F (hno _) dX3_pass_51 (fun z => fX3_throwsIf_m (xFG F) z s0 (2 : Int32)) (Or.inl rfl) (ci := 39) (C := RX3) (T := TX3) rfl q3634 q3631 q3633 qs79 (xroom hRm (Nat.le_of_ble_eq_true rfl) (Nat.le_of_ble_eq_true rfl)) ⟨by decide, by decide⟩ n_X3_throwsIf rfl (xcat (Nat.le_of_ble_eq_true rfl)) (fun v51 => ?_)
  refine xr_if_eq 59 F dX3_pass_54 rfl ?_ ?_
  · refine xr_aload_n 0 (r := (some l0)) F dX3_pass_59 rfl ?_
    refine xr_VV (y := yX3_keeps) (As := []) (r := (some l0)) F (hno _) dX3_pass_60 (fun z => fX3_keeps_m (xFG F) z) (Or.inl rfl) (ci := 39) (C := RX3) (T := TX3) rfl q3877 q3874 q3876 qs107 (xroom hRm (Nat.le_of_ble_eq_true rfl) (Nat.le_of_ble_eq_true rfl)) ⟨by decide, by decide⟩ n_X3_keeps rfl (xcat (Nat.le_of_ble_eq_true rfl)) (fun _ => ?_)
    refine xr_iconst (0 : Int32) F dX3_pass_63 rfl ?_
    refine xr_letI (fun x2_64 => ?_)
    refine xs_i_n [0, 1] F dX3_pass_64 hnL rfl rfl (xk1 rfl rfl (xk2 rfl rfl xk0)) ?_
    refine xr_iconst (0 : Int32) F dX3_pass_65 rfl ?_
    refine xr_letI (fun x3_66 => ?_)
    refine xs_i_n [0, 1, 2] F dX3_pass_66 hnL rfl rfl (xk2 rfl rfl (xk1 rfl rfl (xk1 rfl rfl xk0))) ?_
    exact xI.sub [2, 3, 1, 0] rfl (fX3_pass_p67_ok F hnL hRm hno hmn xFU l0 l1 x2_64 x3_66)
  · refine xr_iconst (0 : Int32) F dX3_pass_57 rfl ?_
    exact xr_iret F dX3_pass_58
theorem fX3_pass_p23_ok {x : xC} (F : xF x RX3 cX3_pass (some .int)) (hnL : xnL x = 4) (hRm : ∃ dc ds, x.2.2.2.1 = { frames := 10, cells := dc, slots := ds, locals := 220 }) (hno : ∀ pc, xNo x pc) (hmn : xmn x = "pass" ∧ xmy x yX3_pass) (l0 : Nat) (l1 : Int32) (s0 : Int32) (s1 : Nat) : xI x xeI 23 [(0, va_rf (some l0)), (1, .int l1)] [.int s0, va_rf (some s1)] (fX3_pass_p23 l0 l1 s0 s1) := by
  unfold fX3_pass_p23
  refine xr_iconst (1 : Int32) F dX3_pass_23 rfl ?_
  refine xr_VI (y := yX3_throwsIf) (As := [.int s0, .int (1 : Int32)]) (r := (some s1)) F (hno _) dX3_pass_24 (fun z => fX3_throwsIf_m (xFG F) z s0 (1 : Int32)) (Or.inl rfl) (ci := 39) (C := RX3) (T := TX3) rfl q3634 q3631 q3633 qs79 (xroom hRm (Nat.le_of_ble_eq_true rfl) (Nat.le_of_ble_eq_true rfl)) ⟨by decide, by decide⟩ n_X3_throwsIf rfl (xcat (Nat.le_of_ble_eq_true rfl)) (fun v24 => ?_)
  refine xr_if_ne 57 F dX3_pass_27 rfl ?_ ?_
  · refine xr_aload_n 0 (r := (some l0)) F dX3_pass_30 rfl ?_
    refine xr_aload_n 0 (r := (some l0)) F dX3_pass_31 rfl ?_
    refine xr_gR (r := (some l0)) (ref := "ReserveLedgerModel") F dX3_pass_32 (C := RX3) (T := TX3) (N := 25) rfl (by decide) (Or.inl q3395) (Or.inl rfl) (fun v32 => ?_)
    refine xr_iconst (1 : Int32) F dX3_pass_35 rfl ?_
    refine xr_iald (r := v32) F dX3_pass_36 (fun v36 => ?_)
    refine xr_iload_n 1 F dX3_pass_37 rfl ?_
    refine xr_iadd F dX3_pass_38 ?_
    refine xr_sipush (9999 : Int32) F dX3_pass_39 rfl ?_
    refine xr_icmp_le 49 F dX3_pass_42 rfl ?_ ?_
    · refine xr_iconst (0 : Int32) F dX3_pass_49 rfl ?_
      exact xI.sub [0, 1] rfl (fX3_pass_p50_ok F hnL hRm hno hmn l0 l1 (0 : Int32) l0)
    · refine xr_iconst (1 : Int32) F dX3_pass_45 rfl ?_
      refine xr_goto 50 F dX3_pass_46 rfl ?_
      exact xI.sub [0, 1] rfl (fX3_pass_p50_ok F hnL hRm hno hmn l0 l1 (1 : Int32) l0)
  · refine xr_iconst (0 : Int32) F dX3_pass_57 rfl ?_
    exact xr_iret F dX3_pass_58
theorem fX3_pass_m {l : Launch} {D : xD} {s0 : State} {b0 : Nat} {Γ : Nat → Option Nat} (G : xG l D s0 b0 Γ) (a0 : Nat) (p0 : Int32) : xMeth l D s0 Γ yX3_pass (Cond.code yX3_pass cX3_pass 4 (some .int)) (10) (220) [.ref a0, .int p0] xeI (fX3_pass a0 p0) := by
  refine xMeth.of (lv0 := [(0, va_rf (some a0)), (1, .int p0)]) G (by decide +kernel) (Or.inl rfl) (Nat.le_of_ble_eq_true rfl) rfl (fun x F hnL hRm hmn ht e1 e2 e3 e4 => ?_)
  have hno : ∀ pc, xNo x pc := fun pc z hz => by rw [ht.1 rfl] at hz; cases hz
  unfold fX3_pass
  refine xr_aload_n 0 (r := (some a0)) F dX3_pass_0 rfl ?_
  refine xr_iconst (0 : Int32) F dX3_pass_1 rfl ?_
  refine xr_put (r := (some a0)) (ref := "ReserveLedgerModel") F dX3_pass_2 xk_39 (by decide) (Or.inl q3394) (Or.inl rfl) (Or.inl rfl) ⟨rfl, rfl⟩ ?_
  refine xr_aload_n 0 (r := (some a0)) F dX3_pass_5 rfl ?_
  refine xr_iload_n 1 F dX3_pass_6 rfl ?_
  refine xr_i2l F dX3_pass_7 ?_
  refine xr_lconst 1 F dX3_pass_8 rfl ?_
  refine xr_ldc2 F dX3_pass_9 q3873 ?_
  refine xr_SI (y := yX3_in) (As := [.long p0.toInt64, .long (1 : Int64), .long (50 : Int64)]) F (hno _) dX3_pass_12 (fX3_in_m (xFG F) p0.toInt64 (1 : Int64) (50 : Int64)) (Or.inl rfl) q3544 q144 (Or.inl q3542) q3543 (xroom hRm (Nat.le_of_ble_eq_true rfl) (Nat.le_of_ble_eq_true rfl)) ⟨by decide, by decide⟩ n_X3_in rfl (xcat (Nat.le_of_ble_eq_true rfl)) (fun v12 => ?_)
  refine xr_if_ne 22 F dX3_pass_15 rfl ?_ ?_
  · refine xr_iconst (1 : Int32) F dX3_pass_18 rfl ?_
    refine xr_goto 23 F dX3_pass_19 rfl ?_
    exact xI.sub [0, 1] rfl (fX3_pass_p23_ok F hnL hRm hno hmn a0 p0 (1 : Int32) a0)
  · refine xr_iconst (0 : Int32) F dX3_pass_22 rfl ?_
    exact xI.sub [0, 1] rfl (fX3_pass_p23_ok F hnL hRm hno hmn a0 p0 (0 : Int32) a0)
theorem fX3_take_p57_ok {x : xC} (F : xF x RX3 cX3_take (some .int)) (hnL : xnL x = 4) (hRm : ∃ dc ds, x.2.2.2.1 = { frames := 7, cells := dc, slots := ds, locals := 146 }) (hno : ∀ pc, xNo x pc) (hmn : xmn x = "take" ∧ xmy x yX3_take) (l0 : Nat) (l1 : Int32) (l2 : Int32) (l3 : Int32) (s0 : Int32) (s1 : Nat) : xI x xeI 57 [(0, va_rf (some l0)), (1, .int l1), (2, .int l2), (3, .int l3)] [.int s0, va_rf (some s1)] (fX3_take_p57 l0 l1 l2 l3 s0 s1) := by
  unfold fX3_take_p57
  refine xr_iconst (3 : Int32) F dX3_take_57 rfl ?_
  refine xr_VI (y := yX3_throwsIf) (As := [.int s0, .int (3 : Int32)]) (r := (some s1)) F (hno _) dX3_take_58 (fun z => fX3_throwsIf_m (xFG F) z s0 (3 : Int32)) (Or.inl rfl) (ci := 39) (C := RX3) (T := TX3) rfl q3634 q3631 q3633 qs79 (xroom hRm (Nat.le_of_ble_eq_true rfl) (Nat.le_of_ble_eq_true rfl)) ⟨by decide, by decide⟩ n_X3_throwsIf rfl (xcat (Nat.le_of_ble_eq_true rfl)) (fun v58 => ?_)
  refine xr_if_eq 66 F dX3_take_61 rfl ?_ ?_
  · refine xr_aload_n 0 (r := (some l0)) F dX3_take_66 rfl ?_
    refine xr_VV (y := yX3_keeps) (As := []) (r := (some l0)) F (hno _) dX3_take_67 (fun z => fX3_keeps_m (xFG F) z) (Or.inl rfl) (ci := 39) (C := RX3) (T := TX3) rfl q3877 q3874 q3876 qs107 (xroom hRm (Nat.le_of_ble_eq_true rfl) (Nat.le_of_ble_eq_true rfl)) ⟨by decide, by decide⟩ n_X3_keeps rfl (xcat (Nat.le_of_ble_eq_true rfl)) (fun _ => ?_)
    refine xr_aload_n 0 (r := (some l0)) F dX3_take_70 rfl ?_
    refine xr_iload_n 1 F dX3_take_71 rfl ?_
    refine xr_iload_n 2 F dX3_take_72 rfl ?_
    refine xr_iload_n 3 F dX3_take_73 rfl ?_
    refine xr_VV (y := yX3_takesOut) (As := [.int l1, .int l2, .int l3]) (r := (some l0)) F (hno _) dX3_take_74 (fun z => fX3_takesOut_m (xFG F) z l1 l2 l3) (Or.inl rfl) (ci := 39) (C := RX3) (T := TX3) rfl q3898 q3895 q3897 qs112 (xroom hRm (Nat.le_of_ble_eq_true rfl) (Nat.le_of_ble_eq_true rfl)) ⟨by decide, by decide⟩ n_X3_takesOut rfl (xcat (Nat.le_of_ble_eq_true rfl)) (fun _ => ?_)
    refine xr_aload_n 0 (r := (some l0)) F dX3_take_77 rfl ?_
    refine xr_iload_n 1 F dX3_take_78 rfl ?_
    refine xr_VI (y := yX3_leftOf) (As := [.int l1]) (r := (some l0)) F (hno _) dX3_take_79 (fun z => fX3_leftOf_m (xFG F) z l1) (Or.inl rfl) (ci := 39) (C := RX3) (T := TX3) rfl q3693 q3690 q3692 qs88 (xroom hRm (Nat.le_of_ble_eq_true rfl) (Nat.le_of_ble_eq_true rfl)) ⟨by decide, by decide⟩ n_X3_leftOf rfl (xcat (Nat.le_of_ble_eq_true rfl)) (fun v79 => ?_)
    exact xr_iret F dX3_take_82
  · refine xr_iconst (0 : Int32) F dX3_take_64 rfl ?_
    exact xr_iret F dX3_take_65
theorem fX3_take_p52_ok {x : xC} (F : xF x RX3 cX3_take (some .int)) (hnL : xnL x = 4) (hRm : ∃ dc ds, x.2.2.2.1 = { frames := 7, cells := dc, slots := ds, locals := 146 }) (hno : ∀ pc, xNo x pc) (hmn : xmn x = "take" ∧ xmy x yX3_take) (l0 : Nat) (l1 : Int32) (l2 : Int32) (l3 : Int32) (s0 : Nat) : xI x xeI 52 [(0, va_rf (some l0)), (1, .int l1), (2, .int l2), (3, .int l3)] [va_rf (some s0)] (fX3_take_p52 l0 l1 l2 l3 s0) := by
  unfold fX3_take_p52
  refine xr_iconst (1 : Int32) F dX3_take_52 rfl ?_
  refine xr_goto 57 F dX3_take_53 rfl ?_
  exact xI.sub [0, 1, 2, 3] rfl (fX3_take_p57_ok F hnL hRm hno hmn l0 l1 l2 l3 (1 : Int32) s0)
theorem fX3_take_p25_ok {x : xC} (F : xF x RX3 cX3_take (some .int)) (hnL : xnL x = 4) (hRm : ∃ dc ds, x.2.2.2.1 = { frames := 7, cells := dc, slots := ds, locals := 146 }) (hno : ∀ pc, xNo x pc) (hmn : xmn x = "take" ∧ xmy x yX3_take) (l0 : Nat) (l1 : Int32) (l2 : Int32) (l3 : Int32) (s0 : Int32) (s1 : Nat) : xI x xeI 25 [(0, va_rf (some l0)), (1, .int l1), (2, .int l2), (3, .int l3)] [.int s0, va_rf (some s1)] (fX3_take_p25 l0 l1 l2 l3 s0 s1) := by
  unfold fX3_take_p25
  refine xr_iconst (2 : Int32) F dX3_take_25 rfl ?_
  refine xr_VI (y := yX3_throwsIf) (As := [.int s0, .int (2 : Int32)]) (r := (some s1)) F (hno _) dX3_take_26 (fun z => fX3_throwsIf_m (xFG F) z s0 (2 : Int32)) (Or.inl rfl) (ci := 39) (C := RX3) (T := TX3) rfl q3634 q3631 q3633 qs79 (xroom hRm (Nat.le_of_ble_eq_true rfl) (Nat.le_of_ble_eq_true rfl)) ⟨by decide, by decide⟩ n_X3_throwsIf rfl (xcat (Nat.le_of_ble_eq_true rfl)) (fun v26 => ?_)
  refine xr_if_ne 64 F dX3_take_29 rfl ?_ ?_
  · refine xr_aload_n 0 (r := (some l0)) F dX3_take_32 rfl ?_
    refine xr_iload_n 3 F dX3_take_33 rfl ?_
    refine xr_aload_n 0 (r := (some l0)) F dX3_take_34 rfl ?_
    refine xr_iload_n 1 F dX3_take_35 rfl ?_
    refine xr_iload_n 2 F dX3_take_36 rfl ?_
    refine xr_VI (y := yX3_cohortOf) (As := [.int l1, .int l2]) (r := (some l0)) F (hno _) dX3_take_37 (fun z => fX3_cohortOf_m (xFG F) z l1 l2) (Or.inl rfl) (ci := 39) (C := RX3) (T := TX3) rfl q3650 q3647 q3649 qs83 (xroom hRm (Nat.le_of_ble_eq_true rfl) (Nat.le_of_ble_eq_true rfl)) ⟨by decide, by decide⟩ n_X3_cohortOf rfl (xcat (Nat.le_of_ble_eq_true rfl)) (fun v37 => ?_)
    refine xr_icmp_gt 52 F dX3_take_40 rfl ?_ ?_
    · exact xI.sub [0, 1, 2, 3] rfl (fX3_take_p52_ok F hnL hRm hno hmn l0 l1 l2 l3 l0)
    · refine xr_iload_n 3 F dX3_take_43 rfl ?_
      refine xr_aload_n 0 (r := (some l0)) F dX3_take_44 rfl ?_
      refine xr_iload_n 1 F dX3_take_45 rfl ?_
      refine xr_VI (y := yX3_leftOf) (As := [.int l1]) (r := (some l0)) F (hno _) dX3_take_46 (fun z => fX3_leftOf_m (xFG F) z l1) (Or.inl rfl) (ci := 39) (C := RX3) (T := TX3) rfl q3693 q3690 q3692 qs88 (xroom hRm (Nat.le_of_ble_eq_true rfl) (Nat.le_of_ble_eq_true rfl)) ⟨by decide, by decide⟩ n_X3_leftOf rfl (xcat (Nat.le_of_ble_eq_true rfl)) (fun v46 => ?_)
      refine xr_icmp_le 56 F dX3_take_49 rfl ?_ ?_
      · refine xr_iconst (0 : Int32) F dX3_take_56 rfl ?_
        exact xI.sub [0, 1, 2, 3] rfl (fX3_take_p57_ok F hnL hRm hno hmn l0 l1 l2 l3 (0 : Int32) l0)
      · exact xI.sub [0, 1, 2, 3] rfl (fX3_take_p52_ok F hnL hRm hno hmn l0 l1 l2 l3 l0)
  · refine xr_iconst (0 : Int32) F dX3_take_64 rfl ?_
    exact xr_iret F dX3_take_65
theorem fX3_take_m {l : Launch} {D : xD} {s0 : State} {b0 : Nat} {Γ : Nat → Option Nat} (G : xG l D s0 b0 Γ) (a0 : Nat) (p0 : Int32) (p1 : Int32) (p2 : Int32) : xMeth l D s0 Γ yX3_take (Cond.code yX3_take cX3_take 4 (some .int)) (7) (146) [.ref a0, .int p0, .int p1, .int p2] xeI (fX3_take a0 p0 p1 p2) := by
  refine xMeth.of (lv0 := [(0, va_rf (some a0)), (1, .int p0), (2, .int p1), (3, .int p2)]) G (by decide +kernel) (Or.inl rfl) (Nat.le_of_ble_eq_true rfl) rfl (fun x F hnL hRm hmn ht e1 e2 e3 e4 => ?_)
  have hno : ∀ pc, xNo x pc := fun pc z hz => by rw [ht.1 rfl] at hz; cases hz
  unfold fX3_take
  refine xr_aload_n 0 (r := (some a0)) F dX3_take_0 rfl ?_
  refine xr_iconst (0 : Int32) F dX3_take_1 rfl ?_
  refine xr_put (r := (some a0)) (ref := "ReserveLedgerModel") F dX3_take_2 xk_39 (by decide) (Or.inl q3394) (Or.inl rfl) (Or.inl rfl) ⟨rfl, rfl⟩ ?_
  refine xr_aload_n 0 (r := (some a0)) F dX3_take_5 rfl ?_
  refine xr_iload_n 1 F dX3_take_6 rfl ?_
  refine xr_iload_n 2 F dX3_take_7 rfl ?_
  refine xr_VI (y := yX3_noAge) (As := [.int p0, .int p1]) (r := (some a0)) F (hno _) dX3_take_8 (fun z => fX3_noAge_m (xFG F) z p0 p1) (Or.inl rfl) (ci := 39) (C := RX3) (T := TX3) rfl q3702 q3699 q3701 qs89 (xroom hRm (Nat.le_of_ble_eq_true rfl) (Nat.le_of_ble_eq_true rfl)) ⟨by decide, by decide⟩ n_X3_noAge rfl (xcat (Nat.le_of_ble_eq_true rfl)) (fun v8 => ?_)
  refine xr_if_ne 64 F dX3_take_11 rfl ?_ ?_
  · refine xr_aload_n 0 (r := (some a0)) F dX3_take_14 rfl ?_
    refine xr_iload_n 3 F dX3_take_15 rfl ?_
    refine xr_iconst (1 : Int32) F dX3_take_16 rfl ?_
    refine xr_icmp_ge 24 F dX3_take_17 rfl ?_ ?_
    · refine xr_iconst (0 : Int32) F dX3_take_24 rfl ?_
      exact xI.sub [0, 1, 2, 3] rfl (fX3_take_p25_ok F hnL hRm hno hmn a0 p0 p1 p2 (0 : Int32) a0)
    · refine xr_iconst (1 : Int32) F dX3_take_20 rfl ?_
      refine xr_goto 25 F dX3_take_21 rfl ?_
      exact xI.sub [0, 1, 2, 3] rfl (fX3_take_p25_ok F hnL hRm hno hmn a0 p0 p1 p2 (1 : Int32) a0)
  · refine xr_iconst (0 : Int32) F dX3_take_64 rfl ?_
    exact xr_iret F dX3_take_65
theorem fX3_add_p55_ok {x : xC} (F : xF x RX3 cX3_add (some .int)) (hnL : xnL x = 4) (hRm : ∃ dc ds, x.2.2.2.1 = { frames := 5, cells := dc, slots := ds, locals := 100 }) (hno : ∀ pc, xNo x pc) (hmn : xmn x = "add" ∧ xmy x yX3_add) (l0 : Nat) (l1 : Int32) (l2 : Int32) (l3 : Int32) (s0 : Int32) (s1 : Nat) : xI x xeI 55 [(0, va_rf (some l0)), (1, .int l1), (2, .int l2), (3, .int l3)] [.int s0, va_rf (some s1)] (fX3_add_p55 l0 l1 l2 l3 s0 s1) := by
  unfold fX3_add_p55
  refine xr_iconst (3 : Int32) F dX3_add_55 rfl ?_
  refine xr_VI (y := yX3_throwsIf) (As := [.int s0, .int (3 : Int32)]) (r := (some s1)) F (hno _) dX3_add_56 (fun z => fX3_throwsIf_m (xFG F) z s0 (3 : Int32)) (Or.inl rfl) (ci := 39) (C := RX3) (T := TX3) rfl q3634 q3631 q3633 qs79 (xroom hRm (Nat.le_of_ble_eq_true rfl) (Nat.le_of_ble_eq_true rfl)) ⟨by decide, by decide⟩ n_X3_throwsIf rfl (xcat (Nat.le_of_ble_eq_true rfl)) (fun v56 => ?_)
  refine xr_if_eq 64 F dX3_add_59 rfl ?_ ?_
  · refine xr_aload_n 0 (r := (some l0)) F dX3_add_64 rfl ?_
    refine xr_VV (y := yX3_keeps) (As := []) (r := (some l0)) F (hno _) dX3_add_65 (fun z => fX3_keeps_m (xFG F) z) (Or.inl rfl) (ci := 39) (C := RX3) (T := TX3) rfl q3877 q3874 q3876 qs107 (xroom hRm (Nat.le_of_ble_eq_true rfl) (Nat.le_of_ble_eq_true rfl)) ⟨by decide, by decide⟩ n_X3_keeps rfl (xcat (Nat.le_of_ble_eq_true rfl)) (fun _ => ?_)
    refine xr_aload_n 0 (r := (some l0)) F dX3_add_68 rfl ?_
    refine xr_iload_n 1 F dX3_add_69 rfl ?_
    refine xr_iload_n 2 F dX3_add_70 rfl ?_
    refine xr_iload_n 3 F dX3_add_71 rfl ?_
    refine xr_VV (y := yX3_adds) (As := [.int l1, .int l2, .int l3]) (r := (some l0)) F (hno _) dX3_add_72 (fun z => fX3_adds_m (xFG F) z l1 l2 l3) (Or.inl rfl) (ci := 39) (C := RX3) (T := TX3) rfl q3894 q3891 q3893 qs111 (xroom hRm (Nat.le_of_ble_eq_true rfl) (Nat.le_of_ble_eq_true rfl)) ⟨by decide, by decide⟩ n_X3_adds rfl (xcat (Nat.le_of_ble_eq_true rfl)) (fun _ => ?_)
    refine xr_aload_n 0 (r := (some l0)) F dX3_add_75 rfl ?_
    refine xr_iload_n 1 F dX3_add_76 rfl ?_
    refine xr_VI (y := yX3_totalOf) (As := [.int l1]) (r := (some l0)) F (hno _) dX3_add_77 (fun z => fX3_totalOf_m (xFG F) z l1) (Or.inl rfl) (ci := 39) (C := RX3) (T := TX3) rfl q3646 q3643 q3645 qs82 (xroom hRm (Nat.le_of_ble_eq_true rfl) (Nat.le_of_ble_eq_true rfl)) ⟨by decide, by decide⟩ n_X3_totalOf rfl (xcat (Nat.le_of_ble_eq_true rfl)) (fun v77 => ?_)
    exact xr_iret F dX3_add_80
  · refine xr_iconst (0 : Int32) F dX3_add_62 rfl ?_
    exact xr_iret F dX3_add_63
theorem fX3_add_p25_ok {x : xC} (F : xF x RX3 cX3_add (some .int)) (hnL : xnL x = 4) (hRm : ∃ dc ds, x.2.2.2.1 = { frames := 5, cells := dc, slots := ds, locals := 100 }) (hno : ∀ pc, xNo x pc) (hmn : xmn x = "add" ∧ xmy x yX3_add) (l0 : Nat) (l1 : Int32) (l2 : Int32) (l3 : Int32) (s0 : Int32) (s1 : Nat) : xI x xeI 25 [(0, va_rf (some l0)), (1, .int l1), (2, .int l2), (3, .int l3)] [.int s0, va_rf (some s1)] (fX3_add_p25 l0 l1 l2 l3 s0 s1) := by
  unfold fX3_add_p25
  refine xr_iconst (2 : Int32) F dX3_add_25 rfl ?_
  refine xr_VI (y := yX3_throwsIf) (As := [.int s0, .int (2 : Int32)]) (r := (some s1)) F (hno _) dX3_add_26 (fun z => fX3_throwsIf_m (xFG F) z s0 (2 : Int32)) (Or.inl rfl) (ci := 39) (C := RX3) (T := TX3) rfl q3634 q3631 q3633 qs79 (xroom hRm (Nat.le_of_ble_eq_true rfl) (Nat.le_of_ble_eq_true rfl)) ⟨by decide, by decide⟩ n_X3_throwsIf rfl (xcat (Nat.le_of_ble_eq_true rfl)) (fun v26 => ?_)
  refine xr_if_ne 62 F dX3_add_29 rfl ?_ ?_
  · refine xr_aload_n 0 (r := (some l0)) F dX3_add_32 rfl ?_
    refine xr_aload_n 0 (r := (some l0)) F dX3_add_33 rfl ?_
    refine xr_iload_n 1 F dX3_add_34 rfl ?_
    refine xr_iload_n 2 F dX3_add_35 rfl ?_
    refine xr_VI (y := yX3_cohortOf) (As := [.int l1, .int l2]) (r := (some l0)) F (hno _) dX3_add_36 (fun z => fX3_cohortOf_m (xFG F) z l1 l2) (Or.inl rfl) (ci := 39) (C := RX3) (T := TX3) rfl q3650 q3647 q3649 qs83 (xroom hRm (Nat.le_of_ble_eq_true rfl) (Nat.le_of_ble_eq_true rfl)) ⟨by decide, by decide⟩ n_X3_cohortOf rfl (xcat (Nat.le_of_ble_eq_true rfl)) (fun v36 => ?_)
    refine xr_i2l F dX3_add_39 ?_
    refine xr_iload_n 3 F dX3_add_40 rfl ?_
    refine xr_i2l F dX3_add_41 ?_
    refine xr_ladd F dX3_add_42 ?_
    refine xr_ldc2 F dX3_add_43 q3843 ?_
    refine xr_lcmp F dX3_add_46 ?_
    refine xr_if_le 54 F dX3_add_47 rfl ?_ ?_
    · refine xr_iconst (0 : Int32) F dX3_add_54 rfl ?_
      exact xI.sub [0, 1, 2, 3] rfl (fX3_add_p55_ok F hnL hRm hno hmn l0 l1 l2 l3 (0 : Int32) l0)
    · refine xr_iconst (1 : Int32) F dX3_add_50 rfl ?_
      refine xr_goto 55 F dX3_add_51 rfl ?_
      exact xI.sub [0, 1, 2, 3] rfl (fX3_add_p55_ok F hnL hRm hno hmn l0 l1 l2 l3 (1 : Int32) l0)
  · refine xr_iconst (0 : Int32) F dX3_add_62 rfl ?_
    exact xr_iret F dX3_add_63
theorem fX3_add_m {l : Launch} {D : xD} {s0 : State} {b0 : Nat} {Γ : Nat → Option Nat} (G : xG l D s0 b0 Γ) (a0 : Nat) (p0 : Int32) (p1 : Int32) (p2 : Int32) : xMeth l D s0 Γ yX3_add (Cond.code yX3_add cX3_add 4 (some .int)) (5) (100) [.ref a0, .int p0, .int p1, .int p2] xeI (fX3_add a0 p0 p1 p2) := by
  refine xMeth.of (lv0 := [(0, va_rf (some a0)), (1, .int p0), (2, .int p1), (3, .int p2)]) G (by decide +kernel) (Or.inl rfl) (Nat.le_of_ble_eq_true rfl) rfl (fun x F hnL hRm hmn ht e1 e2 e3 e4 => ?_)
  have hno : ∀ pc, xNo x pc := fun pc z hz => by rw [ht.1 rfl] at hz; cases hz
  unfold fX3_add
  refine xr_aload_n 0 (r := (some a0)) F dX3_add_0 rfl ?_
  refine xr_iconst (0 : Int32) F dX3_add_1 rfl ?_
  refine xr_put (r := (some a0)) (ref := "ReserveLedgerModel") F dX3_add_2 xk_39 (by decide) (Or.inl q3394) (Or.inl rfl) (Or.inl rfl) ⟨rfl, rfl⟩ ?_
  refine xr_aload_n 0 (r := (some a0)) F dX3_add_5 rfl ?_
  refine xr_iload_n 1 F dX3_add_6 rfl ?_
  refine xr_iload_n 2 F dX3_add_7 rfl ?_
  refine xr_VI (y := yX3_noAge) (As := [.int p0, .int p1]) (r := (some a0)) F (hno _) dX3_add_8 (fun z => fX3_noAge_m (xFG F) z p0 p1) (Or.inl rfl) (ci := 39) (C := RX3) (T := TX3) rfl q3702 q3699 q3701 qs89 (xroom hRm (Nat.le_of_ble_eq_true rfl) (Nat.le_of_ble_eq_true rfl)) ⟨by decide, by decide⟩ n_X3_noAge rfl (xcat (Nat.le_of_ble_eq_true rfl)) (fun v8 => ?_)
  refine xr_if_ne 62 F dX3_add_11 rfl ?_ ?_
  · refine xr_aload_n 0 (r := (some a0)) F dX3_add_14 rfl ?_
    refine xr_iload_n 3 F dX3_add_15 rfl ?_
    refine xr_iconst (1 : Int32) F dX3_add_16 rfl ?_
    refine xr_icmp_ge 24 F dX3_add_17 rfl ?_ ?_
    · refine xr_iconst (0 : Int32) F dX3_add_24 rfl ?_
      exact xI.sub [0, 1, 2, 3] rfl (fX3_add_p25_ok F hnL hRm hno hmn a0 p0 p1 p2 (0 : Int32) a0)
    · refine xr_iconst (1 : Int32) F dX3_add_20 rfl ?_
      refine xr_goto 25 F dX3_add_21 rfl ?_
      exact xI.sub [0, 1, 2, 3] rfl (fX3_add_p25_ok F hnL hRm hno hmn a0 p0 p1 p2 (1 : Int32) a0)
  · refine xr_iconst (0 : Int32) F dX3_add_62 rfl ?_
    exact xr_iret F dX3_add_63
theorem fX3_sick_p49_ok {x : xC} (F : xF x RX3 cX3_sick (some .int)) (hnL : xnL x = 5) (hRm : ∃ dc ds, x.2.2.2.1 = { frames := 7, cells := dc, slots := ds, locals := 150 }) (hno : ∀ pc, xNo x pc) (hmn : xmn x = "sick" ∧ xmy x yX3_sick) (l0 : Nat) (l1 : Int32) (l2 : Int32) (l3 : Int32) (l4 : Int32) (s0 : Int32) (s1 : Nat) : xI x xeI 49 [(0, va_rf (some l0)), (1, .int l1), (2, .int l2), (3, .int l3), (4, .int l4)] [.int s0, va_rf (some s1)] (fX3_sick_p49 l0 l1 l2 l3 l4 s0 s1) := by
  unfold fX3_sick_p49
  refine xr_iconst (2 : Int32) F dX3_sick_49 rfl ?_
  refine xr_VI (y := yX3_throwsIf) (As := [.int s0, .int (2 : Int32)]) (r := (some s1)) F (hno _) dX3_sick_50 (fun z => fX3_throwsIf_m (xFG F) z s0 (2 : Int32)) (Or.inl rfl) (ci := 39) (C := RX3) (T := TX3) rfl q3634 q3631 q3633 qs79 (xroom hRm (Nat.le_of_ble_eq_true rfl) (Nat.le_of_ble_eq_true rfl)) ⟨by decide, by decide⟩ n_X3_throwsIf rfl (xcat (Nat.le_of_ble_eq_true rfl)) (fun v50 => ?_)
  refine xr_if_eq 58 F dX3_sick_53 rfl ?_ ?_
  · refine xr_aload_n 0 (r := (some l0)) F dX3_sick_58 rfl ?_
    refine xr_VV (y := yX3_keeps) (As := []) (r := (some l0)) F (hno _) dX3_sick_59 (fun z => fX3_keeps_m (xFG F) z) (Or.inl rfl) (ci := 39) (C := RX3) (T := TX3) rfl q3877 q3874 q3876 qs107 (xroom hRm (Nat.le_of_ble_eq_true rfl) (Nat.le_of_ble_eq_true rfl)) ⟨by decide, by decide⟩ n_X3_keeps rfl (xcat (Nat.le_of_ble_eq_true rfl)) (fun _ => ?_)
    refine xr_aload_n 0 (r := (some l0)) F dX3_sick_62 rfl ?_
    refine xr_iload_n 1 F dX3_sick_63 rfl ?_
    refine xr_iload_n 2 F dX3_sick_64 rfl ?_
    refine xr_iload_n 3 F dX3_sick_65 rfl ?_
    refine xr_iload 4 F dX3_sick_66 rfl ?_
    refine xr_VI (y := yX3_sickens) (As := [.int l1, .int l2, .int l3, .int l4]) (r := (some l0)) F (hno _) dX3_sick_68 (fun z => fX3_sickens_m (xFG F) z l1 l2 l3 l4) (Or.inl rfl) (ci := 39) (C := RX3) (T := TX3) rfl q3902 q3899 q3901 qs113 (xroom hRm (Nat.le_of_ble_eq_true rfl) (Nat.le_of_ble_eq_true rfl)) ⟨by decide, by decide⟩ n_X3_sickens rfl (xcat (Nat.le_of_ble_eq_true rfl)) (fun v68 => ?_)
    exact xr_iret F dX3_sick_71
  · refine xr_iconst (0 : Int32) F dX3_sick_56 rfl ?_
    exact xr_iret F dX3_sick_57
theorem fX3_sick_p44_ok {x : xC} (F : xF x RX3 cX3_sick (some .int)) (hnL : xnL x = 5) (hRm : ∃ dc ds, x.2.2.2.1 = { frames := 7, cells := dc, slots := ds, locals := 150 }) (hno : ∀ pc, xNo x pc) (hmn : xmn x = "sick" ∧ xmy x yX3_sick) (l0 : Nat) (l1 : Int32) (l2 : Int32) (l3 : Int32) (l4 : Int32) (s0 : Nat) : xI x xeI 44 [(0, va_rf (some l0)), (1, .int l1), (2, .int l2), (3, .int l3), (4, .int l4)] [va_rf (some s0)] (fX3_sick_p44 l0 l1 l2 l3 l4 s0) := by
  unfold fX3_sick_p44
  refine xr_iconst (1 : Int32) F dX3_sick_44 rfl ?_
  refine xr_goto 49 F dX3_sick_45 rfl ?_
  exact xI.sub [0, 1, 2, 3, 4] rfl (fX3_sick_p49_ok F hnL hRm hno hmn l0 l1 l2 l3 l4 (1 : Int32) s0)
theorem fX3_sick_m {l : Launch} {D : xD} {s0 : State} {b0 : Nat} {Γ : Nat → Option Nat} (G : xG l D s0 b0 Γ) (a0 : Nat) (p0 : Int32) (p1 : Int32) (p2 : Int32) (p3 : Int32) : xMeth l D s0 Γ yX3_sick (Cond.code yX3_sick cX3_sick 5 (some .int)) (7) (150) [.ref a0, .int p0, .int p1, .int p2, .int p3] xeI (fX3_sick a0 p0 p1 p2 p3) := by
  refine xMeth.of (lv0 := [(0, va_rf (some a0)), (1, .int p0), (2, .int p1), (3, .int p2), (4, .int p3)]) G (by decide +kernel) (Or.inl rfl) (Nat.le_of_ble_eq_true rfl) rfl (fun x F hnL hRm hmn ht e1 e2 e3 e4 => ?_)
  have hno : ∀ pc, xNo x pc := fun pc z hz => by rw [ht.1 rfl] at hz; cases hz
  unfold fX3_sick
  refine xr_aload_n 0 (r := (some a0)) F dX3_sick_0 rfl ?_
  refine xr_iconst (0 : Int32) F dX3_sick_1 rfl ?_
  refine xr_put (r := (some a0)) (ref := "ReserveLedgerModel") F dX3_sick_2 xk_39 (by decide) (Or.inl q3394) (Or.inl rfl) (Or.inl rfl) ⟨rfl, rfl⟩ ?_
  refine xr_aload_n 0 (r := (some a0)) F dX3_sick_5 rfl ?_
  refine xr_iload_n 1 F dX3_sick_6 rfl ?_
  refine xr_iload_n 2 F dX3_sick_7 rfl ?_
  refine xr_VI (y := yX3_noAge) (As := [.int p0, .int p1]) (r := (some a0)) F (hno _) dX3_sick_8 (fun z => fX3_noAge_m (xFG F) z p0 p1) (Or.inl rfl) (ci := 39) (C := RX3) (T := TX3) rfl q3702 q3699 q3701 qs89 (xroom hRm (Nat.le_of_ble_eq_true rfl) (Nat.le_of_ble_eq_true rfl)) ⟨by decide, by decide⟩ n_X3_noAge rfl (xcat (Nat.le_of_ble_eq_true rfl)) (fun v8 => ?_)
  refine xr_if_ne 56 F dX3_sick_11 rfl ?_ ?_
  · refine xr_aload_n 0 (r := (some a0)) F dX3_sick_14 rfl ?_
    refine xr_iload_n 3 F dX3_sick_15 rfl ?_
    refine xr_i2l F dX3_sick_16 ?_
    refine xr_iload_n 2 F dX3_sick_17 rfl ?_
    refine xr_i2l F dX3_sick_18 ?_
    refine xr_aload_n 0 (r := (some a0)) F dX3_sick_19 rfl ?_
    refine xr_iload_n 1 F dX3_sick_20 rfl ?_
    refine xr_VI (y := yX3_oldest) (As := [.int p0]) (r := (some a0)) F (hno _) dX3_sick_21 (fun z => fX3_oldest_m (xFG F) z p0) (Or.inl rfl) (ci := 39) (C := RX3) (T := TX3) rfl q3583 q3580 q3582 qs68 (xroom hRm (Nat.le_of_ble_eq_true rfl) (Nat.le_of_ble_eq_true rfl)) ⟨by decide, by decide⟩ n_X3_oldest rfl (xcat (Nat.le_of_ble_eq_true rfl)) (fun v21 => ?_)
    refine xr_i2l F dX3_sick_24 ?_
    refine xr_SI (y := yX3_in) (As := [.long p2.toInt64, .long p1.toInt64, .long v21.toInt64]) F (hno _) dX3_sick_25 (fX3_in_m (xFG F) p2.toInt64 p1.toInt64 v21.toInt64) (Or.inl rfl) q3544 q144 (Or.inl q3542) q3543 (xroom hRm (Nat.le_of_ble_eq_true rfl) (Nat.le_of_ble_eq_true rfl)) ⟨by decide, by decide⟩ n_X3_in rfl (xcat (Nat.le_of_ble_eq_true rfl)) (fun v25 => ?_)
    refine xr_if_eq 44 F dX3_sick_28 rfl ?_ ?_
    · exact xI.sub [0, 1, 2, 3, 4] rfl (fX3_sick_p44_ok F hnL hRm hno hmn a0 p0 p1 p2 p3 a0)
    · refine xr_iload 4 F dX3_sick_31 rfl ?_
      refine xr_i2l F dX3_sick_33 ?_
      refine xr_lconst 0 F dX3_sick_34 rfl ?_
      refine xr_ldc2 F dX3_sick_35 q3720 ?_
      refine xr_SI (y := yX3_in) (As := [.long p3.toInt64, .long (0 : Int64), .long (1000 : Int64)]) F (hno _) dX3_sick_38 (fX3_in_m (xFG F) p3.toInt64 (0 : Int64) (1000 : Int64)) (Or.inl rfl) q3544 q144 (Or.inl q3542) q3543 (xroom hRm (Nat.le_of_ble_eq_true rfl) (Nat.le_of_ble_eq_true rfl)) ⟨by decide, by decide⟩ n_X3_in rfl (xcat (Nat.le_of_ble_eq_true rfl)) (fun v38 => ?_)
      refine xr_if_ne 48 F dX3_sick_41 rfl ?_ ?_
      · exact xI.sub [0, 1, 2, 3, 4] rfl (fX3_sick_p44_ok F hnL hRm hno hmn a0 p0 p1 p2 p3 a0)
      · refine xr_iconst (0 : Int32) F dX3_sick_48 rfl ?_
        exact xI.sub [0, 1, 2, 3, 4] rfl (fX3_sick_p49_ok F hnL hRm hno hmn a0 p0 p1 p2 p3 (0 : Int32) a0)
  · refine xr_iconst (0 : Int32) F dX3_sick_56 rfl ?_
    exact xr_iret F dX3_sick_57
theorem fX3_mark_p57_ok {x : xC} (F : xF x RX3 cX3_mark (some .int)) (hnL : xnL x = 3) (hRm : ∃ dc ds, x.2.2.2.1 = { frames := 5, cells := dc, slots := ds, locals := 100 }) (hno : ∀ pc, xNo x pc) (hmn : xmn x = "mark" ∧ xmy x yX3_mark) (l0 : Nat) (l1 : Int32) (l2 : Int32) (s0 : Int32) (s1 : Nat) : xI x xeI 57 [(0, va_rf (some l0)), (1, .int l1), (2, .int l2)] [.int s0, va_rf (some s1)] (fX3_mark_p57 l0 l1 l2 s0 s1) := by
  unfold fX3_mark_p57
  refine xr_iconst (3 : Int32) F dX3_mark_57 rfl ?_
  refine xr_VI (y := yX3_throwsIf) (As := [.int s0, .int (3 : Int32)]) (r := (some s1)) F (hno _) dX3_mark_58 (fun z => fX3_throwsIf_m (xFG F) z s0 (3 : Int32)) (Or.inl rfl) (ci := 39) (C := RX3) (T := TX3) rfl q3634 q3631 q3633 qs79 (xroom hRm (Nat.le_of_ble_eq_true rfl) (Nat.le_of_ble_eq_true rfl)) ⟨by decide, by decide⟩ n_X3_throwsIf rfl (xcat (Nat.le_of_ble_eq_true rfl)) (fun v58 => ?_)
  refine xr_if_eq 66 F dX3_mark_61 rfl ?_ ?_
  · refine xr_aload_n 0 (r := (some l0)) F dX3_mark_66 rfl ?_
    refine xr_VV (y := yX3_keeps) (As := []) (r := (some l0)) F (hno _) dX3_mark_67 (fun z => fX3_keeps_m (xFG F) z) (Or.inl rfl) (ci := 39) (C := RX3) (T := TX3) rfl q3877 q3874 q3876 qs107 (xroom hRm (Nat.le_of_ble_eq_true rfl) (Nat.le_of_ble_eq_true rfl)) ⟨by decide, by decide⟩ n_X3_keeps rfl (xcat (Nat.le_of_ble_eq_true rfl)) (fun _ => ?_)
    refine xr_aload_n 0 (r := (some l0)) F dX3_mark_70 rfl ?_
    refine xr_gR (r := (some l0)) (ref := "ReserveLedgerModel") F dX3_mark_71 (C := RX3) (T := TX3) (N := 25) rfl (by decide) (Or.inl q3395) (Or.inl rfl) (fun v71 => ?_)
    refine xr_iload_n 1 F dX3_mark_74 rfl ?_
    refine xr_iconst (4 : Int32) F dX3_mark_75 rfl ?_
    refine xr_SI (y := yX3_at) (As := [.int l1, .int (4 : Int32)]) F (hno _) dX3_mark_76 (fX3_at_m (xFG F) l1 (4 : Int32)) (Or.inl rfl) q3565 q144 (Or.inl q3563) q3564 (xroom hRm (Nat.le_of_ble_eq_true rfl) (Nat.le_of_ble_eq_true rfl)) ⟨by decide, by decide⟩ n_X3_at rfl (xcat (Nat.le_of_ble_eq_true rfl)) (fun v76 => ?_)
    refine xr_dup2_11 F dX3_mark_79 rfl (xrf_cat _) ?_
    refine xr_iald (r := v71) F dX3_mark_80 (fun v80 => ?_)
    refine xr_iload_n 2 F dX3_mark_81 rfl ?_
    refine xr_iadd F dX3_mark_82 ?_
    refine xr_iast (r := v71) F dX3_mark_83 ?_
    refine xr_aload_n 0 (r := (some l0)) F dX3_mark_84 rfl ?_
    refine xr_iload_n 1 F dX3_mark_85 rfl ?_
    refine xr_iconst (4 : Int32) F dX3_mark_86 rfl ?_
    refine xr_VI (y := yX3_of) (As := [.int l1, .int (4 : Int32)]) (r := (some l0)) F (hno _) dX3_mark_87 (fun z => fX3_of_m (xFG F) z l1 (4 : Int32)) (Or.inl rfl) (ci := 39) (C := RX3) (T := TX3) rfl q3562 q3559 q3561 qs65 (xroom hRm (Nat.le_of_ble_eq_true rfl) (Nat.le_of_ble_eq_true rfl)) ⟨by decide, by decide⟩ n_X3_of rfl (xcat (Nat.le_of_ble_eq_true rfl)) (fun v87 => ?_)
    exact xr_iret F dX3_mark_90
  · refine xr_iconst (0 : Int32) F dX3_mark_64 rfl ?_
    exact xr_iret F dX3_mark_65
theorem fX3_mark_p24_ok {x : xC} (F : xF x RX3 cX3_mark (some .int)) (hnL : xnL x = 3) (hRm : ∃ dc ds, x.2.2.2.1 = { frames := 5, cells := dc, slots := ds, locals := 100 }) (hno : ∀ pc, xNo x pc) (hmn : xmn x = "mark" ∧ xmy x yX3_mark) (l0 : Nat) (l1 : Int32) (l2 : Int32) (s0 : Int32) (s1 : Nat) : xI x xeI 24 [(0, va_rf (some l0)), (1, .int l1), (2, .int l2)] [.int s0, va_rf (some s1)] (fX3_mark_p24 l0 l1 l2 s0 s1) := by
  unfold fX3_mark_p24
  refine xr_iconst (2 : Int32) F dX3_mark_24 rfl ?_
  refine xr_VI (y := yX3_throwsIf) (As := [.int s0, .int (2 : Int32)]) (r := (some s1)) F (hno _) dX3_mark_25 (fun z => fX3_throwsIf_m (xFG F) z s0 (2 : Int32)) (Or.inl rfl) (ci := 39) (C := RX3) (T := TX3) rfl q3634 q3631 q3633 qs79 (xroom hRm (Nat.le_of_ble_eq_true rfl) (Nat.le_of_ble_eq_true rfl)) ⟨by decide, by decide⟩ n_X3_throwsIf rfl (xcat (Nat.le_of_ble_eq_true rfl)) (fun v25 => ?_)
  refine xr_if_ne 64 F dX3_mark_28 rfl ?_ ?_
  · refine xr_aload_n 0 (r := (some l0)) F dX3_mark_31 rfl ?_
    refine xr_aload_n 0 (r := (some l0)) F dX3_mark_32 rfl ?_
    refine xr_iload_n 1 F dX3_mark_33 rfl ?_
    refine xr_iconst (4 : Int32) F dX3_mark_34 rfl ?_
    refine xr_VI (y := yX3_of) (As := [.int l1, .int (4 : Int32)]) (r := (some l0)) F (hno _) dX3_mark_35 (fun z => fX3_of_m (xFG F) z l1 (4 : Int32)) (Or.inl rfl) (ci := 39) (C := RX3) (T := TX3) rfl q3562 q3559 q3561 qs65 (xroom hRm (Nat.le_of_ble_eq_true rfl) (Nat.le_of_ble_eq_true rfl)) ⟨by decide, by decide⟩ n_X3_of rfl (xcat (Nat.le_of_ble_eq_true rfl)) (fun v35 => ?_)
    refine xr_i2l F dX3_mark_38 ?_
    refine xr_iload_n 2 F dX3_mark_39 rfl ?_
    refine xr_i2l F dX3_mark_40 ?_
    refine xr_ladd F dX3_mark_41 ?_
    refine xr_aload_n 0 (r := (some l0)) F dX3_mark_42 rfl ?_
    refine xr_iload_n 1 F dX3_mark_43 rfl ?_
    refine xr_VI (y := yX3_totalOf) (As := [.int l1]) (r := (some l0)) F (hno _) dX3_mark_44 (fun z => fX3_totalOf_m (xFG F) z l1) (Or.inl rfl) (ci := 39) (C := RX3) (T := TX3) rfl q3646 q3643 q3645 qs82 (xroom hRm (Nat.le_of_ble_eq_true rfl) (Nat.le_of_ble_eq_true rfl)) ⟨by decide, by decide⟩ n_X3_totalOf rfl (xcat (Nat.le_of_ble_eq_true rfl)) (fun v44 => ?_)
    refine xr_i2l F dX3_mark_47 ?_
    refine xr_lcmp F dX3_mark_48 ?_
    refine xr_if_le 56 F dX3_mark_49 rfl ?_ ?_
    · refine xr_iconst (0 : Int32) F dX3_mark_56 rfl ?_
      exact xI.sub [0, 1, 2] rfl (fX3_mark_p57_ok F hnL hRm hno hmn l0 l1 l2 (0 : Int32) l0)
    · refine xr_iconst (1 : Int32) F dX3_mark_52 rfl ?_
      refine xr_goto 57 F dX3_mark_53 rfl ?_
      exact xI.sub [0, 1, 2] rfl (fX3_mark_p57_ok F hnL hRm hno hmn l0 l1 l2 (1 : Int32) l0)
  · refine xr_iconst (0 : Int32) F dX3_mark_64 rfl ?_
    exact xr_iret F dX3_mark_65
theorem fX3_mark_m {l : Launch} {D : xD} {s0 : State} {b0 : Nat} {Γ : Nat → Option Nat} (G : xG l D s0 b0 Γ) (a0 : Nat) (p0 : Int32) (p1 : Int32) : xMeth l D s0 Γ yX3_mark (Cond.code yX3_mark cX3_mark 3 (some .int)) (5) (100) [.ref a0, .int p0, .int p1] xeI (fX3_mark a0 p0 p1) := by
  refine xMeth.of (lv0 := [(0, va_rf (some a0)), (1, .int p0), (2, .int p1)]) G (by decide +kernel) (Or.inl rfl) (Nat.le_of_ble_eq_true rfl) rfl (fun x F hnL hRm hmn ht e1 e2 e3 e4 => ?_)
  have hno : ∀ pc, xNo x pc := fun pc z hz => by rw [ht.1 rfl] at hz; cases hz
  unfold fX3_mark
  refine xr_aload_n 0 (r := (some a0)) F dX3_mark_0 rfl ?_
  refine xr_iconst (0 : Int32) F dX3_mark_1 rfl ?_
  refine xr_put (r := (some a0)) (ref := "ReserveLedgerModel") F dX3_mark_2 xk_39 (by decide) (Or.inl q3394) (Or.inl rfl) (Or.inl rfl) ⟨rfl, rfl⟩ ?_
  refine xr_aload_n 0 (r := (some a0)) F dX3_mark_5 rfl ?_
  refine xr_iload_n 1 F dX3_mark_6 rfl ?_
  refine xr_VI (y := yX3_noSpecies) (As := [.int p0]) (r := (some a0)) F (hno _) dX3_mark_7 (fun z => fX3_noSpecies_m (xFG F) z p0) (Or.inl rfl) (ci := 39) (C := RX3) (T := TX3) rfl q3688 q3685 q3687 qs87 (xroom hRm (Nat.le_of_ble_eq_true rfl) (Nat.le_of_ble_eq_true rfl)) ⟨by decide, by decide⟩ n_X3_noSpecies rfl (xcat (Nat.le_of_ble_eq_true rfl)) (fun v7 => ?_)
  refine xr_if_ne 64 F dX3_mark_10 rfl ?_ ?_
  · refine xr_aload_n 0 (r := (some a0)) F dX3_mark_13 rfl ?_
    refine xr_iload_n 2 F dX3_mark_14 rfl ?_
    refine xr_iconst (1 : Int32) F dX3_mark_15 rfl ?_
    refine xr_icmp_ge 23 F dX3_mark_16 rfl ?_ ?_
    · refine xr_iconst (0 : Int32) F dX3_mark_23 rfl ?_
      exact xI.sub [0, 1, 2] rfl (fX3_mark_p24_ok F hnL hRm hno hmn a0 p0 p1 (0 : Int32) a0)
    · refine xr_iconst (1 : Int32) F dX3_mark_19 rfl ?_
      refine xr_goto 24 F dX3_mark_20 rfl ?_
      exact xI.sub [0, 1, 2] rfl (fX3_mark_p24_ok F hnL hRm hno hmn a0 p0 p1 (1 : Int32) a0)
  · refine xr_iconst (0 : Int32) F dX3_mark_64 rfl ?_
    exact xr_iret F dX3_mark_65
theorem fX3_survey_p130_ok {x : xC} (F : xF x RX3 cX3_survey (some .long)) (hnL : xnL x = 7) (hRm : ∃ dc ds, x.2.2.2.1 = { frames := 5, cells := dc, slots := ds, locals := 100 }) (hno : ∀ pc, xNo x pc) (hmn : xmn x = "survey" ∧ xmy x yX3_survey) : ∀ (n : Nat) (l0 : Nat) (l1 : Int32) (l2 : Int32) (l3 : Int32) (l4 : Int32) (l6 : Int32), xI x xeJ 130 [(0, va_rf (some l0)), (1, .int l1), (2, .int l2), (3, .int l3), (4, .int l4), (6, .int l6)] [] (fX3_survey_p130 n l0 l1 l2 l3 l4 l6) := by
  intro n
  induction n with
  | zero => intro l0 l1 l2 l3 l4 l6; exact xI.stuck
  | succ n ih =>
    intro l0 l1 l2 l3 l4 l6
    unfold fX3_survey_p130
    refine xr_iload 5 F dX3_survey_130 rfl ?_
    refine xr_iconst (4 : Int32) F dX3_survey_132 rfl ?_
    refine xr_icmp_lt 168 F dX3_survey_133 rfl ?_ ?_
    · refine xr_aload_n 0 (r := (some l0)) F dX3_survey_168 rfl ?_
      refine xr_gR (r := (some l0)) (ref := "ReserveLedgerModel") F dX3_survey_169 (C := RX3) (T := TX3) (N := 25) rfl (by decide) (Or.inl q3395) (Or.inl rfl) (fun v169 => ?_)
      refine xr_iload_n 1 F dX3_survey_172 rfl ?_
      refine xr_bipush (52 : Int32) F dX3_survey_173 rfl ?_
      refine xr_SI (y := yX3_at) (As := [.int l1, .int (52 : Int32)]) F (hno _) dX3_survey_175 (fX3_at_m (xFG F) l1 (52 : Int32)) (Or.inl rfl) q3565 q144 (Or.inl q3563) q3564 (xroom hRm (Nat.le_of_ble_eq_true rfl) (Nat.le_of_ble_eq_true rfl)) ⟨by decide, by decide⟩ n_X3_at rfl (xcat (Nat.le_of_ble_eq_true rfl)) (fun v175 => ?_)
      refine xr_aload_n 0 (r := (some l0)) F dX3_survey_178 rfl ?_
      refine xr_gR (r := (some l0)) (ref := "ReserveLedgerModel") F dX3_survey_179 (C := RX3) (T := TX3) (N := 25) rfl (by decide) (Or.inl q3395) (Or.inl rfl) (fun v179 => ?_)
      refine xr_iconst (1 : Int32) F dX3_survey_182 rfl ?_
      refine xr_iald (r := v179) F dX3_survey_183 (fun v183 => ?_)
      refine xr_iast (r := v169) F dX3_survey_184 ?_
      refine xr_aload_n 0 (r := (some l0)) F dX3_survey_185 rfl ?_
      refine xr_gR (r := (some l0)) (ref := "ReserveLedgerModel") F dX3_survey_186 (C := RX3) (T := TX3) (N := 25) rfl (by decide) (Or.inl q3395) (Or.inl rfl) (fun v186 => ?_)
      refine xr_iload_n 1 F dX3_survey_189 rfl ?_
      refine xr_bipush (53 : Int32) F dX3_survey_190 rfl ?_
      refine xr_SI (y := yX3_at) (As := [.int l1, .int (53 : Int32)]) F (hno _) dX3_survey_192 (fX3_at_m (xFG F) l1 (53 : Int32)) (Or.inl rfl) q3565 q144 (Or.inl q3563) q3564 (xroom hRm (Nat.le_of_ble_eq_true rfl) (Nat.le_of_ble_eq_true rfl)) ⟨by decide, by decide⟩ n_X3_at rfl (xcat (Nat.le_of_ble_eq_true rfl)) (fun v192 => ?_)
      refine xr_iload 4 F dX3_survey_195 rfl ?_
      refine xr_iast (r := v186) F dX3_survey_197 ?_
      refine xr_aload_n 0 (r := (some l0)) F dX3_survey_198 rfl ?_
      refine xr_gR (r := (some l0)) (ref := "ReserveLedgerModel") F dX3_survey_199 (C := RX3) (T := TX3) (N := 25) rfl (by decide) (Or.inl q3395) (Or.inl rfl) (fun v199 => ?_)
      refine xr_iload_n 1 F dX3_survey_202 rfl ?_
      refine xr_bipush (54 : Int32) F dX3_survey_203 rfl ?_
      refine xr_SI (y := yX3_at) (As := [.int l1, .int (54 : Int32)]) F (hno _) dX3_survey_205 (fX3_at_m (xFG F) l1 (54 : Int32)) (Or.inl rfl) q3565 q144 (Or.inl q3563) q3564 (xroom hRm (Nat.le_of_ble_eq_true rfl) (Nat.le_of_ble_eq_true rfl)) ⟨by decide, by decide⟩ n_X3_at rfl (xcat (Nat.le_of_ble_eq_true rfl)) (fun v205 => ?_)
      refine xr_iload_n 2 F dX3_survey_208 rfl ?_
      refine xr_iast (r := v199) F dX3_survey_209 ?_
      refine xr_aload_n 0 (r := (some l0)) F dX3_survey_210 rfl ?_
      refine xr_gR (r := (some l0)) (ref := "ReserveLedgerModel") F dX3_survey_211 (C := RX3) (T := TX3) (N := 25) rfl (by decide) (Or.inl q3395) (Or.inl rfl) (fun v211 => ?_)
      refine xr_iload_n 1 F dX3_survey_214 rfl ?_
      refine xr_bipush (55 : Int32) F dX3_survey_215 rfl ?_
      refine xr_SI (y := yX3_at) (As := [.int l1, .int (55 : Int32)]) F (hno _) dX3_survey_217 (fX3_at_m (xFG F) l1 (55 : Int32)) (Or.inl rfl) q3565 q144 (Or.inl q3563) q3564 (xroom hRm (Nat.le_of_ble_eq_true rfl) (Nat.le_of_ble_eq_true rfl)) ⟨by decide, by decide⟩ n_X3_at rfl (xcat (Nat.le_of_ble_eq_true rfl)) (fun v217 => ?_)
      refine xr_iload_n 3 F dX3_survey_220 rfl ?_
      refine xr_iast (r := v211) F dX3_survey_221 ?_
      refine xr_aload_n 0 (r := (some l0)) F dX3_survey_222 rfl ?_
      refine xr_iload_n 1 F dX3_survey_223 rfl ?_
      refine xr_iconst (0 : Int32) F dX3_survey_224 rfl ?_
      refine xr_VJ (y := yX3_estimateOf) (As := [.int l1, .int (0 : Int32)]) (r := (some l0)) F (hno _) dX3_survey_225 (fun z => fX3_estimateOf_m (xFG F) z l1 (0 : Int32)) (Or.inl rfl) (ci := 39) (C := RX3) (T := TX3) rfl q3804 q3801 q3803 qs99 (xroom hRm (Nat.le_of_ble_eq_true rfl) (Nat.le_of_ble_eq_true rfl)) ⟨by decide, by decide⟩ n_X3_estimateOf rfl (xcat (Nat.le_of_ble_eq_true rfl)) (fun v225 => ?_)
      exact xr_lret F dX3_survey_228
    · refine xr_aload_n 0 (r := (some l0)) F dX3_survey_136 rfl ?_
      refine xr_gR (r := (some l0)) (ref := "ReserveLedgerModel") F dX3_survey_137 (C := RX3) (T := TX3) (N := 25) rfl (by decide) (Or.inl q3395) (Or.inl rfl) (fun v137 => ?_)
      refine xr_iload_n 1 F dX3_survey_140 rfl ?_
      refine xr_bipush (52 : Int32) F dX3_survey_141 rfl ?_
      refine xr_iload 5 F dX3_survey_143 rfl ?_
      refine xr_iadd F dX3_survey_145 ?_
      refine xr_SI (y := yX3_at) (As := [.int l1, .int ((52 : Int32) + l6)]) F (hno _) dX3_survey_146 (fX3_at_m (xFG F) l1 ((52 : Int32) + l6)) (Or.inl rfl) q3565 q144 (Or.inl q3563) q3564 (xroom hRm (Nat.le_of_ble_eq_true rfl) (Nat.le_of_ble_eq_true rfl)) ⟨by decide, by decide⟩ n_X3_at rfl (xcat (Nat.le_of_ble_eq_true rfl)) (fun v146 => ?_)
      refine xr_aload_n 0 (r := (some l0)) F dX3_survey_149 rfl ?_
      refine xr_iload_n 1 F dX3_survey_150 rfl ?_
      refine xr_bipush (52 : Int32) F dX3_survey_151 rfl ?_
      refine xr_iload 5 F dX3_survey_153 rfl ?_
      refine xr_iadd F dX3_survey_155 ?_
      refine xr_iconst (4 : Int32) F dX3_survey_156 rfl ?_
      refine xr_isub F dX3_survey_157 ?_
      refine xr_VI (y := yX3_of) (As := [.int l1, .int (((52 : Int32) + l6) - (4 : Int32))]) (r := (some l0)) F (hno _) dX3_survey_158 (fun z => fX3_of_m (xFG F) z l1 (((52 : Int32) + l6) - (4 : Int32))) (Or.inl rfl) (ci := 39) (C := RX3) (T := TX3) rfl q3562 q3559 q3561 qs65 (xroom hRm (Nat.le_of_ble_eq_true rfl) (Nat.le_of_ble_eq_true rfl)) ⟨by decide, by decide⟩ n_X3_of rfl (xcat (Nat.le_of_ble_eq_true rfl)) (fun v158 => ?_)
      refine xr_iast (r := v137) F dX3_survey_161 ?_
      refine xs_inc [5, 0, 1, 2, 3, 4] F dX3_survey_162 rfl hnL rfl rfl (xk1 rfl rfl (xk1 rfl rfl (xk1 rfl rfl (xk1 rfl rfl (xk1 rfl rfl xk0))))) (fun x6_162 => ?_)
      refine xr_goto 130 F dX3_survey_165 rfl ?_
      exact xI.sub [1, 2, 3, 4, 5, 0] rfl (ih l0 l1 l2 l3 l4 x6_162)
theorem fX3_survey_p126_ok {x : xC} (F : xF x RX3 cX3_survey (some .long)) (hnL : xnL x = 7) (hRm : ∃ dc ds, x.2.2.2.1 = { frames := 5, cells := dc, slots := ds, locals := 100 }) (hno : ∀ pc, xNo x pc) (hmn : xmn x = "survey" ∧ xmy x yX3_survey) (l0 : Nat) (l1 : Int32) (l2 : Int32) (l3 : Int32) (l4 : Int32) : xI x xeJ 126 [(0, va_rf (some l0)), (1, .int l1), (2, .int l2), (3, .int l3), (4, .int l4)] [] (fX3_survey_p126 l0 l1 l2 l3 l4) := by
  unfold fX3_survey_p126
  refine xr_bipush (79 : Int32) F dX3_survey_126 rfl ?_
  refine xr_letI (fun x6_128 => ?_)
  refine xs_i [0, 1, 2, 3, 4] F dX3_survey_128 hnL rfl rfl (xk1 rfl rfl (xk1 rfl rfl (xk1 rfl rfl (xk1 rfl rfl (xk1 rfl rfl xk0))))) ?_
  exact xI.sub [1, 2, 3, 4, 5, 0] rfl (fX3_survey_p130_ok F hnL hRm hno hmn xFU l0 l1 l2 l3 l4 x6_128)
theorem fX3_survey_p86_ok {x : xC} (F : xF x RX3 cX3_survey (some .long)) (hnL : xnL x = 7) (hRm : ∃ dc ds, x.2.2.2.1 = { frames := 5, cells := dc, slots := ds, locals := 100 }) (hno : ∀ pc, xNo x pc) (hmn : xmn x = "survey" ∧ xmy x yX3_survey) (l0 : Nat) (l1 : Int32) (l2 : Int32) (l3 : Int32) (l4 : Int32) (s0 : Int32) (s1 : Nat) : xI x xeJ 86 [(0, va_rf (some l0)), (1, .int l1), (2, .int l2), (3, .int l3), (4, .int l4)] [.int s0, va_rf (some s1)] (fX3_survey_p86 l0 l1 l2 l3 l4 s0 s1) := by
  unfold fX3_survey_p86
  refine xr_iconst (2 : Int32) F dX3_survey_86 rfl ?_
  refine xr_VI (y := yX3_throwsIf) (As := [.int s0, .int (2 : Int32)]) (r := (some s1)) F (hno _) dX3_survey_87 (fun z => fX3_throwsIf_m (xFG F) z s0 (2 : Int32)) (Or.inl rfl) (ci := 39) (C := RX3) (T := TX3) rfl q3634 q3631 q3633 qs79 (xroom hRm (Nat.le_of_ble_eq_true rfl) (Nat.le_of_ble_eq_true rfl)) ⟨by decide, by decide⟩ n_X3_throwsIf rfl (xcat (Nat.le_of_ble_eq_true rfl)) (fun v87 => ?_)
  refine xr_if_eq 95 F dX3_survey_90 rfl ?_ ?_
  · refine xr_aload_n 0 (r := (some l0)) F dX3_survey_95 rfl ?_
    refine xr_VV (y := yX3_keeps) (As := []) (r := (some l0)) F (hno _) dX3_survey_96 (fun z => fX3_keeps_m (xFG F) z) (Or.inl rfl) (ci := 39) (C := RX3) (T := TX3) rfl q3877 q3874 q3876 qs107 (xroom hRm (Nat.le_of_ble_eq_true rfl) (Nat.le_of_ble_eq_true rfl)) ⟨by decide, by decide⟩ n_X3_keeps rfl (xcat (Nat.le_of_ble_eq_true rfl)) (fun _ => ?_)
    refine xr_aload_n 0 (r := (some l0)) F dX3_survey_99 rfl ?_
    refine xr_iload_n 1 F dX3_survey_100 rfl ?_
    refine xr_bipush (12 : Int32) F dX3_survey_101 rfl ?_
    refine xr_VI (y := yX3_of) (As := [.int l1, .int (12 : Int32)]) (r := (some l0)) F (hno _) dX3_survey_103 (fun z => fX3_of_m (xFG F) z l1 (12 : Int32)) (Or.inl rfl) (ci := 39) (C := RX3) (T := TX3) rfl q3562 q3559 q3561 qs65 (xroom hRm (Nat.le_of_ble_eq_true rfl) (Nat.le_of_ble_eq_true rfl)) ⟨by decide, by decide⟩ n_X3_of rfl (xcat (Nat.le_of_ble_eq_true rfl)) (fun v103 => ?_)
    refine xr_bipush (20 : Int32) F dX3_survey_106 rfl ?_
    refine xr_icmp_ge 126 F dX3_survey_108 rfl ?_ ?_
    · exact xI.sub [0, 1, 2, 3, 4] rfl (fX3_survey_p126_ok F hnL hRm hno hmn l0 l1 l2 l3 l4)
    · refine xr_aload_n 0 (r := (some l0)) F dX3_survey_111 rfl ?_
      refine xr_gR (r := (some l0)) (ref := "ReserveLedgerModel") F dX3_survey_112 (C := RX3) (T := TX3) (N := 25) rfl (by decide) (Or.inl q3395) (Or.inl rfl) (fun v112 => ?_)
      refine xr_iload_n 1 F dX3_survey_115 rfl ?_
      refine xr_bipush (12 : Int32) F dX3_survey_116 rfl ?_
      refine xr_SI (y := yX3_at) (As := [.int l1, .int (12 : Int32)]) F (hno _) dX3_survey_118 (fX3_at_m (xFG F) l1 (12 : Int32)) (Or.inl rfl) q3565 q144 (Or.inl q3563) q3564 (xroom hRm (Nat.le_of_ble_eq_true rfl) (Nat.le_of_ble_eq_true rfl)) ⟨by decide, by decide⟩ n_X3_at rfl (xcat (Nat.le_of_ble_eq_true rfl)) (fun v118 => ?_)
      refine xr_dup2_11 F dX3_survey_121 rfl (xrf_cat _) ?_
      refine xr_iald (r := v112) F dX3_survey_122 (fun v122 => ?_)
      refine xr_iconst (1 : Int32) F dX3_survey_123 rfl ?_
      refine xr_iadd F dX3_survey_124 ?_
      refine xr_iast (r := v112) F dX3_survey_125 ?_
      exact xI.sub [0, 1, 2, 3, 4] rfl (fX3_survey_p126_ok F hnL hRm hno hmn l0 l1 l2 l3 l4)
  · refine xr_lconst 0 F dX3_survey_93 rfl ?_
    exact xr_lret F dX3_survey_94
theorem fX3_survey_p73_ok {x : xC} (F : xF x RX3 cX3_survey (some .long)) (hnL : xnL x = 7) (hRm : ∃ dc ds, x.2.2.2.1 = { frames := 5, cells := dc, slots := ds, locals := 100 }) (hno : ∀ pc, xNo x pc) (hmn : xmn x = "survey" ∧ xmy x yX3_survey) (l0 : Nat) (l1 : Int32) (l2 : Int32) (l3 : Int32) (l4 : Int32) (s0 : Int32) : xI x xeJ 73 [(0, va_rf (some l0)), (1, .int l1), (2, .int l2), (3, .int l3), (4, .int l4)] [.int s0] (fX3_survey_p73 l0 l1 l2 l3 l4 s0) := by
  unfold fX3_survey_p73
  refine xs_i [0, 1, 2, 3, 4] F dX3_survey_73 hnL rfl rfl (xk1 rfl rfl (xk1 rfl rfl (xk1 rfl rfl (xk1 rfl rfl (xk2 rfl rfl xk0))))) ?_
  refine xr_aload_n 1 (r := (some l0)) F dX3_survey_75 rfl ?_
  refine xr_iload 0 F dX3_survey_76 rfl ?_
  refine xr_if_ne 85 F dX3_survey_78 rfl ?_ ?_
  · refine xr_iconst (1 : Int32) F dX3_survey_81 rfl ?_
    refine xr_goto 86 F dX3_survey_82 rfl ?_
    exact xI.sub [1, 2, 3, 4, 5] rfl (fX3_survey_p86_ok F hnL hRm hno hmn l0 l1 l2 l3 l4 (1 : Int32) l0)
  · refine xr_iconst (0 : Int32) F dX3_survey_85 rfl ?_
    exact xI.sub [1, 2, 3, 4, 5] rfl (fX3_survey_p86_ok F hnL hRm hno hmn l0 l1 l2 l3 l4 (0 : Int32) l0)
theorem fX3_survey_p72_ok {x : xC} (F : xF x RX3 cX3_survey (some .long)) (hnL : xnL x = 7) (hRm : ∃ dc ds, x.2.2.2.1 = { frames := 5, cells := dc, slots := ds, locals := 100 }) (hno : ∀ pc, xNo x pc) (hmn : xmn x = "survey" ∧ xmy x yX3_survey) (l0 : Nat) (l1 : Int32) (l2 : Int32) (l3 : Int32) (l4 : Int32) : xI x xeJ 72 [(0, va_rf (some l0)), (1, .int l1), (2, .int l2), (3, .int l3), (4, .int l4)] [] (fX3_survey_p72 l0 l1 l2 l3 l4) := by
  unfold fX3_survey_p72
  refine xr_iconst (0 : Int32) F dX3_survey_72 rfl ?_
  exact xI.sub [0, 1, 2, 3, 4] rfl (fX3_survey_p73_ok F hnL hRm hno hmn l0 l1 l2 l3 l4 (0 : Int32))
theorem fX3_survey_m {l : Launch} {D : xD} {s0 : State} {b0 : Nat} {Γ : Nat → Option Nat} (G : xG l D s0 b0 Γ) (a0 : Nat) (p0 : Int32) (p1 : Int32) (p2 : Int32) : xMeth l D s0 Γ yX3_survey (Cond.code yX3_survey cX3_survey 7 (some .long)) (5) (100) [.ref a0, .int p0, .int p1, .int p2] xeJ (fX3_survey a0 p0 p1 p2) := by
  refine xMeth.of (lv0 := [(0, va_rf (some a0)), (1, .int p0), (2, .int p1), (3, .int p2)]) G (by decide +kernel) (Or.inl rfl) (Nat.le_of_ble_eq_true rfl) rfl (fun x F hnL hRm hmn ht e1 e2 e3 e4 => ?_)
  have hno : ∀ pc, xNo x pc := fun pc z hz => by rw [ht.1 rfl] at hz; cases hz
  unfold fX3_survey
  refine xr_aload_n 0 (r := (some a0)) F dX3_survey_0 rfl ?_
  refine xr_iconst (0 : Int32) F dX3_survey_1 rfl ?_
  refine xr_put (r := (some a0)) (ref := "ReserveLedgerModel") F dX3_survey_2 xk_39 (by decide) (Or.inl q3394) (Or.inl rfl) (Or.inl rfl) ⟨rfl, rfl⟩ ?_
  refine xr_aload_n 0 (r := (some a0)) F dX3_survey_5 rfl ?_
  refine xr_iload_n 1 F dX3_survey_6 rfl ?_
  refine xr_VI (y := yX3_noSpecies) (As := [.int p0]) (r := (some a0)) F (hno _) dX3_survey_7 (fun z => fX3_noSpecies_m (xFG F) z p0) (Or.inl rfl) (ci := 39) (C := RX3) (T := TX3) rfl q3688 q3685 q3687 qs87 (xroom hRm (Nat.le_of_ble_eq_true rfl) (Nat.le_of_ble_eq_true rfl)) ⟨by decide, by decide⟩ n_X3_noSpecies rfl (xcat (Nat.le_of_ble_eq_true rfl)) (fun v7 => ?_)
  refine xr_if_eq 15 F dX3_survey_10 rfl ?_ ?_
  · refine xr_aload_n 0 (r := (some a0)) F dX3_survey_15 rfl ?_
    refine xr_iload_n 1 F dX3_survey_16 rfl ?_
    refine xr_iconst (4 : Int32) F dX3_survey_17 rfl ?_
    refine xr_VI (y := yX3_of) (As := [.int p0, .int (4 : Int32)]) (r := (some a0)) F (hno _) dX3_survey_18 (fun z => fX3_of_m (xFG F) z p0 (4 : Int32)) (Or.inl rfl) (ci := 39) (C := RX3) (T := TX3) rfl q3562 q3559 q3561 qs65 (xroom hRm (Nat.le_of_ble_eq_true rfl) (Nat.le_of_ble_eq_true rfl)) ⟨by decide, by decide⟩ n_X3_of rfl (xcat (Nat.le_of_ble_eq_true rfl)) (fun v18 => ?_)
    refine xs_i [0, 1, 2, 3] F dX3_survey_21 hnL rfl rfl (xk1 rfl rfl (xk1 rfl rfl (xk1 rfl rfl (xk2 rfl rfl xk0)))) ?_
    refine xr_iload_n 3 F dX3_survey_23 rfl ?_
    refine xr_i2l F dX3_survey_24 ?_
    refine xr_lconst 1 F dX3_survey_25 rfl ?_
    refine xr_aload_n 1 (r := (some a0)) F dX3_survey_26 rfl ?_
    refine xr_iload_n 2 F dX3_survey_27 rfl ?_
    refine xr_VI (y := yX3_totalOf) (As := [.int p0]) (r := (some a0)) F (hno _) dX3_survey_28 (fun z => fX3_totalOf_m (xFG F) z p0) (Or.inl rfl) (ci := 39) (C := RX3) (T := TX3) rfl q3646 q3643 q3645 qs82 (xroom hRm (Nat.le_of_ble_eq_true rfl) (Nat.le_of_ble_eq_true rfl)) ⟨by decide, by decide⟩ n_X3_totalOf rfl (xcat (Nat.le_of_ble_eq_true rfl)) (fun v28 => ?_)
    refine xr_i2l F dX3_survey_31 ?_
    refine xr_SI (y := yX3_in) (As := [.long p1.toInt64, .long (1 : Int64), .long v28.toInt64]) F (hno _) dX3_survey_32 (fX3_in_m (xFG F) p1.toInt64 (1 : Int64) v28.toInt64) (Or.inl rfl) q3544 q144 (Or.inl q3542) q3543 (xroom hRm (Nat.le_of_ble_eq_true rfl) (Nat.le_of_ble_eq_true rfl)) ⟨by decide, by decide⟩ n_X3_in rfl (xcat (Nat.le_of_ble_eq_true rfl)) (fun v32 => ?_)
    refine xr_if_eq 72 F dX3_survey_35 rfl ?_ ?_
    · exact xI.sub [1, 2, 3, 4, 0] rfl (fX3_survey_p72_ok F hnL hRm hno hmn a0 p0 p1 p2 v18)
    · refine xr_iload_n 4 F dX3_survey_38 rfl ?_
      refine xr_i2l F dX3_survey_39 ?_
      refine xr_lconst 0 F dX3_survey_40 rfl ?_
      refine xr_iload_n 3 F dX3_survey_41 rfl ?_
      refine xr_iload 0 F dX3_survey_42 rfl ?_
      refine xr_SI (y := yJ12_min) (As := [.int p1, .int v18]) F (hno _) dX3_survey_44 (fJ12_min_m (xFG F) p1 v18) (Or.inl rfl) q345 q135 (Or.inl q3767) q344 (xroom hRm (Nat.le_of_ble_eq_true rfl) (Nat.le_of_ble_eq_true rfl)) ⟨by decide, by decide⟩ n_J12_min rfl (xcat (Nat.le_of_ble_eq_true rfl)) (fun v44 => ?_)
      refine xr_i2l F dX3_survey_47 ?_
      refine xr_SI (y := yX3_in) (As := [.long p2.toInt64, .long (0 : Int64), .long v44.toInt64]) F (hno _) dX3_survey_48 (fX3_in_m (xFG F) p2.toInt64 (0 : Int64) v44.toInt64) (Or.inl rfl) q3544 q144 (Or.inl q3542) q3543 (xroom hRm (Nat.le_of_ble_eq_true rfl) (Nat.le_of_ble_eq_true rfl)) ⟨by decide, by decide⟩ n_X3_in rfl (xcat (Nat.le_of_ble_eq_true rfl)) (fun v48 => ?_)
      refine xr_if_eq 72 F dX3_survey_51 rfl ?_ ?_
      · exact xI.sub [1, 2, 3, 4, 0] rfl (fX3_survey_p72_ok F hnL hRm hno hmn a0 p0 p1 p2 v18)
      · refine xr_iload_n 3 F dX3_survey_54 rfl ?_
        refine xr_iload_n 4 F dX3_survey_55 rfl ?_
        refine xr_isub F dX3_survey_56 ?_
        refine xr_aload_n 1 (r := (some a0)) F dX3_survey_57 rfl ?_
        refine xr_iload_n 2 F dX3_survey_58 rfl ?_
        refine xr_VI (y := yX3_totalOf) (As := [.int p0]) (r := (some a0)) F (hno _) dX3_survey_59 (fun z => fX3_totalOf_m (xFG F) z p0) (Or.inl rfl) (ci := 39) (C := RX3) (T := TX3) rfl q3646 q3643 q3645 qs82 (xroom hRm (Nat.le_of_ble_eq_true rfl) (Nat.le_of_ble_eq_true rfl)) ⟨by decide, by decide⟩ n_X3_totalOf rfl (xcat (Nat.le_of_ble_eq_true rfl)) (fun v59 => ?_)
        refine xr_iload 0 F dX3_survey_62 rfl ?_
        refine xr_isub F dX3_survey_64 ?_
        refine xr_icmp_gt 72 F dX3_survey_65 rfl ?_ ?_
        · exact xI.sub [1, 2, 3, 4, 0] rfl (fX3_survey_p72_ok F hnL hRm hno hmn a0 p0 p1 p2 v18)
        · refine xr_iconst (1 : Int32) F dX3_survey_68 rfl ?_
          refine xr_goto 73 F dX3_survey_69 rfl ?_
          exact xI.sub [1, 2, 3, 4, 0] rfl (fX3_survey_p73_ok F hnL hRm hno hmn a0 p0 p1 p2 v18 (1 : Int32))
  · refine xr_lconst 0 F dX3_survey_13 rfl ?_
    exact xr_lret F dX3_survey_14
theorem fX3_isAhead_p2_ok {x : xC} (F : xF x RX3 cX3_isAhead (some .boolean)) (hnL : xnL x = 3) (hRm : ∃ dc ds, x.2.2.2.1 = { frames := 1, cells := dc, slots := ds, locals := 12 }) (hno : ∀ pc, xNo x pc) (hmn : xmn x = "isAhead" ∧ xmy x yX3_isAhead) : ∀ (n : Nat) (l0 : Nat) (l1 : Int32) (l2 : Int32), xI x xeI 2 [(0, va_rf (some l0)), (1, .int l1), (2, .int l2)] [] (fX3_isAhead_p2 n l0 l1 l2) := by
  intro n
  induction n with
  | zero => intro l0 l1 l2; exact xI.stuck
  | succ n ih =>
    intro l0 l1 l2
    unfold fX3_isAhead_p2
    refine xr_iload_n 2 F dX3_isAhead_2 rfl ?_
    refine xr_iconst (4 : Int32) F dX3_isAhead_3 rfl ?_
    refine xr_icmp_ge 61 F dX3_isAhead_4 rfl ?_ ?_
    · refine xr_iconst (1 : Int32) F dX3_isAhead_61 rfl ?_
      exact xr_zret F dX3_isAhead_62 rfl
    · refine xr_aload_n 0 (r := (some l0)) F dX3_isAhead_7 rfl ?_
      refine xr_gR (r := (some l0)) (ref := "ReserveLedgerModel") F dX3_isAhead_8 (C := RX3) (T := TX3) (N := 25) rfl (by decide) (Or.inl q3395) (Or.inl rfl) (fun v8 => ?_)
      refine xr_iconst (4 : Int32) F dX3_isAhead_11 rfl ?_
      refine xr_iconst (5 : Int32) F dX3_isAhead_12 rfl ?_
      refine xr_iload_n 1 F dX3_isAhead_13 rfl ?_
      refine xr_imul F dX3_isAhead_14 ?_
      refine xr_iadd F dX3_isAhead_15 ?_
      refine xr_iload_n 2 F dX3_isAhead_16 rfl ?_
      refine xr_iadd F dX3_isAhead_17 ?_
      refine xr_iald (r := v8) F dX3_isAhead_18 (fun v18 => ?_)
      refine xr_aload_n 0 (r := (some l0)) F dX3_isAhead_19 rfl ?_
      refine xr_gR (r := (some l0)) (ref := "ReserveLedgerModel") F dX3_isAhead_20 (C := RX3) (T := TX3) (N := 25) rfl (by decide) (Or.inl q3416) (Or.inl rfl) (fun v20 => ?_)
      refine xr_iload_n 2 F dX3_isAhead_23 rfl ?_
      refine xr_iald (r := v20) F dX3_isAhead_24 (fun v24 => ?_)
      refine xr_icmp_eq 55 F dX3_isAhead_25 rfl ?_ ?_
      · refine xs_inc [2, 0, 1] F dX3_isAhead_55 rfl hnL rfl rfl (xk1 rfl rfl (xk2 rfl rfl xk0)) (fun x2_55 => ?_)
        refine xr_goto 2 F dX3_isAhead_58 rfl ?_
        exact xI.sub [1, 2, 0] rfl (ih l0 l1 x2_55)
      · refine xr_aload_n 0 (r := (some l0)) F dX3_isAhead_28 rfl ?_
        refine xr_gR (r := (some l0)) (ref := "ReserveLedgerModel") F dX3_isAhead_29 (C := RX3) (T := TX3) (N := 25) rfl (by decide) (Or.inl q3395) (Or.inl rfl) (fun v29 => ?_)
        refine xr_iconst (4 : Int32) F dX3_isAhead_32 rfl ?_
        refine xr_iconst (5 : Int32) F dX3_isAhead_33 rfl ?_
        refine xr_iload_n 1 F dX3_isAhead_34 rfl ?_
        refine xr_imul F dX3_isAhead_35 ?_
        refine xr_iadd F dX3_isAhead_36 ?_
        refine xr_iload_n 2 F dX3_isAhead_37 rfl ?_
        refine xr_iadd F dX3_isAhead_38 ?_
        refine xr_iald (r := v29) F dX3_isAhead_39 (fun v39 => ?_)
        refine xr_aload_n 0 (r := (some l0)) F dX3_isAhead_40 rfl ?_
        refine xr_gR (r := (some l0)) (ref := "ReserveLedgerModel") F dX3_isAhead_41 (C := RX3) (T := TX3) (N := 25) rfl (by decide) (Or.inl q3416) (Or.inl rfl) (fun v41 => ?_)
        refine xr_iload_n 2 F dX3_isAhead_44 rfl ?_
        refine xr_iald (r := v41) F dX3_isAhead_45 (fun v45 => ?_)
        refine xr_icmp_ge 53 F dX3_isAhead_46 rfl ?_ ?_
        · refine xr_iconst (0 : Int32) F dX3_isAhead_53 rfl ?_
          exact xr_zret F dX3_isAhead_54 rfl
        · refine xr_iconst (1 : Int32) F dX3_isAhead_49 rfl ?_
          refine xr_goto 54 F dX3_isAhead_50 rfl ?_
          exact xr_zret F dX3_isAhead_54 rfl
theorem fX3_isAhead_m {l : Launch} {D : xD} {s0 : State} {b0 : Nat} {Γ : Nat → Option Nat} (G : xG l D s0 b0 Γ) (a0 : Nat) (p0 : Int32) : xMeth l D s0 Γ yX3_isAhead (Cond.code yX3_isAhead cX3_isAhead 3 (some .boolean)) (1) (12) [.ref a0, .int p0] xeI (fX3_isAhead a0 p0) := by
  refine xMeth.of (lv0 := [(0, va_rf (some a0)), (1, .int p0)]) G (by decide +kernel) (Or.inl rfl) (Nat.le_of_ble_eq_true rfl) rfl (fun x F hnL hRm hmn ht e1 e2 e3 e4 => ?_)
  have hno : ∀ pc, xNo x pc := fun pc z hz => by rw [ht.1 rfl] at hz; cases hz
  unfold fX3_isAhead
  refine xr_iconst (0 : Int32) F dX3_isAhead_0 rfl ?_
  refine xr_letI (fun x2_1 => ?_)
  refine xs_i_n [0, 1] F dX3_isAhead_1 hnL rfl rfl (xk1 rfl rfl (xk2 rfl rfl xk0)) ?_
  exact xI.sub [1, 2, 0] rfl (fX3_isAhead_p2_ok F hnL hRm hno hmn xFU a0 p0 x2_1)
theorem fX3_plan_p250_ok {x : xC} (F : xF x RX3 cX3_plan (some .int)) (hnL : xnL x = 9) (hRm : ∃ dc ds, x.2.2.2.1 = { frames := 5, cells := dc, slots := ds, locals := 98 }) (hno : ∀ pc, xNo x pc) (hmn : xmn x = "plan" ∧ xmy x yX3_plan) : ∀ (n : Nat) (l0 : Nat) (l7 : Int32) (l8 : Int32), xI x xeI 250 [(0, va_rf (some l0)), (7, .int l7), (8, .int l8)] [] (fX3_plan_p250 n l0 l7 l8) := by
  intro n
  induction n with
  | zero => intro l0 l7 l8; exact xI.stuck
  | succ n ih =>
    intro l0 l7 l8
    unfold fX3_plan_p250
    refine xr_iload 2 F dX3_plan_250 rfl ?_
    refine xr_iconst (5 : Int32) F dX3_plan_252 rfl ?_
    refine xr_icmp_ge 283 F dX3_plan_253 rfl ?_ ?_
    · refine xr_aload_n 0 (r := (some l0)) F dX3_plan_283 rfl ?_
      refine xr_gR (r := (some l0)) (ref := "ReserveLedgerModel") F dX3_plan_284 (C := RX3) (T := TX3) (N := 25) rfl (by decide) (Or.inl q3395) (Or.inl rfl) (fun v284 => ?_)
      refine xr_iconst (3 : Int32) F dX3_plan_287 rfl ?_
      refine xr_dup2_11 F dX3_plan_288 rfl (xrf_cat _) ?_
      refine xr_iald (r := v284) F dX3_plan_289 (fun v289 => ?_)
      refine xr_iconst (1 : Int32) F dX3_plan_290 rfl ?_
      refine xr_iadd F dX3_plan_291 ?_
      refine xr_iast (r := v284) F dX3_plan_292 ?_
      refine xr_iload 1 F dX3_plan_293 rfl ?_
      exact xr_iret F dX3_plan_295
    · refine xr_aload_n 0 (r := (some l0)) F dX3_plan_256 rfl ?_
      refine xr_gR (r := (some l0)) (ref := "ReserveLedgerModel") F dX3_plan_257 (C := RX3) (T := TX3) (N := 25) rfl (by decide) (Or.inl q3395) (Or.inl rfl) (fun v257 => ?_)
      refine xr_iconst (4 : Int32) F dX3_plan_260 rfl ?_
      refine xr_iconst (5 : Int32) F dX3_plan_261 rfl ?_
      refine xr_iload 1 F dX3_plan_262 rfl ?_
      refine xr_imul F dX3_plan_264 ?_
      refine xr_iadd F dX3_plan_265 ?_
      refine xr_iload 2 F dX3_plan_266 rfl ?_
      refine xr_iadd F dX3_plan_268 ?_
      refine xr_aload_n 0 (r := (some l0)) F dX3_plan_269 rfl ?_
      refine xr_gR (r := (some l0)) (ref := "ReserveLedgerModel") F dX3_plan_270 (C := RX3) (T := TX3) (N := 25) rfl (by decide) (Or.inl q3416) (Or.inl rfl) (fun v270 => ?_)
      refine xr_iload 2 F dX3_plan_273 rfl ?_
      refine xr_iald (r := v270) F dX3_plan_275 (fun v275 => ?_)
      refine xr_iast (r := v257) F dX3_plan_276 ?_
      refine xs_inc [2, 0, 1] F dX3_plan_277 rfl hnL rfl rfl (xk1 rfl rfl (xk2 rfl rfl xk0)) (fun x8_277 => ?_)
      refine xr_goto 250 F dX3_plan_280 rfl ?_
      exact xI.sub [1, 2, 0] rfl (ih l0 l7 x8_277)
theorem fX3_plan_p214_ok {x : xC} (F : xF x RX3 cX3_plan (some .int)) (hnL : xnL x = 9) (hRm : ∃ dc ds, x.2.2.2.1 = { frames := 5, cells := dc, slots := ds, locals := 98 }) (hno : ∀ pc, xNo x pc) (hmn : xmn x = "plan" ∧ xmy x yX3_plan) : ∀ (n : Nat) (l0 : Nat) (l7 : Int32) (l8 : Int32), xI x xeI 214 [(0, va_rf (some l0)), (7, .int l7), (8, .int l8)] [] (fX3_plan_p214 n l0 l7 l8) := by
  intro n
  induction n with
  | zero => intro l0 l7 l8; exact xI.stuck
  | succ n ih =>
    intro l0 l7 l8
    unfold fX3_plan_p214
    refine xr_iload 2 F dX3_plan_214 rfl ?_
    refine xr_iconst (4 : Int32) F dX3_plan_216 rfl ?_
    refine xr_iconst (5 : Int32) F dX3_plan_217 rfl ?_
    refine xr_iload 1 F dX3_plan_218 rfl ?_
    refine xr_imul F dX3_plan_220 ?_
    refine xr_iadd F dX3_plan_221 ?_
    refine xr_icmp_lt 247 F dX3_plan_222 rfl ?_ ?_
    · refine xr_iconst (0 : Int32) F dX3_plan_247 rfl ?_
      refine xr_letI (fun x8_248 => ?_)
      refine xs_i [0, 1] F dX3_plan_248 hnL rfl rfl (xk1 rfl rfl (xk2 rfl rfl xk0)) ?_
      exact xI.sub [1, 2, 0] rfl (fX3_plan_p250_ok F hnL hRm hno hmn xFU l0 l7 x8_248)
    · refine xr_aload_n 0 (r := (some l0)) F dX3_plan_225 rfl ?_
      refine xr_gR (r := (some l0)) (ref := "ReserveLedgerModel") F dX3_plan_226 (C := RX3) (T := TX3) (N := 25) rfl (by decide) (Or.inl q3395) (Or.inl rfl) (fun v226 => ?_)
      refine xr_iload 2 F dX3_plan_229 rfl ?_
      refine xr_iconst (5 : Int32) F dX3_plan_231 rfl ?_
      refine xr_iadd F dX3_plan_232 ?_
      refine xr_aload_n 0 (r := (some l0)) F dX3_plan_233 rfl ?_
      refine xr_gR (r := (some l0)) (ref := "ReserveLedgerModel") F dX3_plan_234 (C := RX3) (T := TX3) (N := 25) rfl (by decide) (Or.inl q3395) (Or.inl rfl) (fun v234 => ?_)
      refine xr_iload 2 F dX3_plan_237 rfl ?_
      refine xr_iald (r := v234) F dX3_plan_239 (fun v239 => ?_)
      refine xr_iast (r := v226) F dX3_plan_240 ?_
      refine xs_inc [2, 0, 1] F dX3_plan_241 rfl hnL rfl rfl (xk1 rfl rfl (xk2 rfl rfl xk0)) (fun x8_241 => ?_)
      refine xr_goto 214 F dX3_plan_244 rfl ?_
      exact xI.sub [1, 2, 0] rfl (ih l0 l7 x8_241)
theorem fX3_plan_p200_ok {x : xC} (F : xF x RX3 cX3_plan (some .int)) (hnL : xnL x = 9) (hRm : ∃ dc ds, x.2.2.2.1 = { frames := 5, cells := dc, slots := ds, locals := 98 }) (hno : ∀ pc, xNo x pc) (hmn : xmn x = "plan" ∧ xmy x yX3_plan) (l0 : Nat) (l7 : Int32) : xI x xeI 200 [(0, va_rf (some l0)), (7, .int l7)] [] (fX3_plan_p200 l0 l7) := by
  unfold fX3_plan_p200
  refine xr_iconst (4 : Int32) F dX3_plan_200 rfl ?_
  refine xr_iconst (5 : Int32) F dX3_plan_201 rfl ?_
  refine xr_aload_n 0 (r := (some l0)) F dX3_plan_202 rfl ?_
  refine xr_gR (r := (some l0)) (ref := "ReserveLedgerModel") F dX3_plan_203 (C := RX3) (T := TX3) (N := 25) rfl (by decide) (Or.inl q3395) (Or.inl rfl) (fun v203 => ?_)
  refine xr_iconst (3 : Int32) F dX3_plan_206 rfl ?_
  refine xr_iald (r := v203) F dX3_plan_207 (fun v207 => ?_)
  refine xr_imul F dX3_plan_208 ?_
  refine xr_iadd F dX3_plan_209 ?_
  refine xr_iconst (1 : Int32) F dX3_plan_210 rfl ?_
  refine xr_isub F dX3_plan_211 ?_
  refine xr_letI (fun x8_212 => ?_)
  refine xs_i [0, 1] F dX3_plan_212 hnL rfl rfl (xk1 rfl rfl (xk2 rfl rfl xk0)) ?_
  exact xI.sub [1, 2, 0] rfl (fX3_plan_p214_ok F hnL hRm hno hmn xFU l0 l7 x8_212)
theorem fX3_plan_p174_ok {x : xC} (F : xF x RX3 cX3_plan (some .int)) (hnL : xnL x = 9) (hRm : ∃ dc ds, x.2.2.2.1 = { frames := 5, cells := dc, slots := ds, locals := 98 }) (hno : ∀ pc, xNo x pc) (hmn : xmn x = "plan" ∧ xmy x yX3_plan) : ∀ (n : Nat) (l0 : Nat) (l7 : Int32), xI x xeI 174 [(0, va_rf (some l0)), (7, .int l7)] [] (fX3_plan_p174 n l0 l7) := by
  intro n
  induction n with
  | zero => intro l0 l7; exact xI.stuck
  | succ n ih =>
    intro l0 l7
    unfold fX3_plan_p174
    refine xr_iload 1 F dX3_plan_174 rfl ?_
    refine xr_aload_n 0 (r := (some l0)) F dX3_plan_176 rfl ?_
    refine xr_gR (r := (some l0)) (ref := "ReserveLedgerModel") F dX3_plan_177 (C := RX3) (T := TX3) (N := 25) rfl (by decide) (Or.inl q3395) (Or.inl rfl) (fun v177 => ?_)
    refine xr_iconst (3 : Int32) F dX3_plan_180 rfl ?_
    refine xr_iald (r := v177) F dX3_plan_181 (fun v181 => ?_)
    refine xr_icmp_ge 200 F dX3_plan_182 rfl ?_ ?_
    · exact xI.sub [0, 1] rfl (fX3_plan_p200_ok F hnL hRm hno hmn l0 l7)
    · refine xr_aload_n 0 (r := (some l0)) F dX3_plan_185 rfl ?_
      refine xr_iload 1 F dX3_plan_186 rfl ?_
      refine xr_VI (y := yX3_isAhead) (As := [.int l7]) (r := (some l0)) F (hno _) dX3_plan_188 (fun z => fX3_isAhead_m (xFG F) z l7) (Or.inl rfl) (ci := 39) (C := RX3) (T := TX3) rfl q3936 q3933 q3935 qs115 (xroom hRm (Nat.le_of_ble_eq_true rfl) (Nat.le_of_ble_eq_true rfl)) ⟨by decide, by decide⟩ n_X3_isAhead rfl (xcat (Nat.le_of_ble_eq_true rfl)) (fun v188 => ?_)
      refine xr_if_eq 200 F dX3_plan_191 rfl ?_ ?_
      · exact xI.sub [0, 1] rfl (fX3_plan_p200_ok F hnL hRm hno hmn l0 l7)
      · refine xs_inc [1, 0] F dX3_plan_194 rfl hnL rfl rfl (xk1 rfl rfl xk0) (fun x7_194 => ?_)
        refine xr_goto 174 F dX3_plan_197 rfl ?_
        exact xI.sub [1, 0] rfl (ih l0 x7_194)
theorem fX3_plan_p121_ok {x : xC} (F : xF x RX3 cX3_plan (some .int)) (hnL : xnL x = 9) (hRm : ∃ dc ds, x.2.2.2.1 = { frames := 5, cells := dc, slots := ds, locals := 98 }) (hno : ∀ pc, xNo x pc) (hmn : xmn x = "plan" ∧ xmy x yX3_plan) (l0 : Nat) (l1 : Int32) (l2 : Int32) (l3 : Int32) (l4 : Int32) (l5 : Int32) (s0 : Int32) (s1 : Nat) : xI x xeI 121 [(0, va_rf (some l0)), (1, .int l1), (2, .int l2), (3, .int l3), (4, .int l4), (5, .int l5)] [.int s0, va_rf (some s1)] (fX3_plan_p121 l0 l1 l2 l3 l4 l5 s0 s1) := by
  unfold fX3_plan_p121
  refine xr_iconst (3 : Int32) F dX3_plan_121 rfl ?_
  refine xr_VI (y := yX3_throwsIf) (As := [.int s0, .int (3 : Int32)]) (r := (some s1)) F (hno _) dX3_plan_122 (fun z => fX3_throwsIf_m (xFG F) z s0 (3 : Int32)) (Or.inl rfl) (ci := 39) (C := RX3) (T := TX3) rfl q3634 q3631 q3633 qs79 (xroom hRm (Nat.le_of_ble_eq_true rfl) (Nat.le_of_ble_eq_true rfl)) ⟨by decide, by decide⟩ n_X3_throwsIf rfl (xcat (Nat.le_of_ble_eq_true rfl)) (fun v122 => ?_)
  refine xr_if_eq 130 F dX3_plan_125 rfl ?_ ?_
  · refine xr_aload_n 0 (r := (some l0)) F dX3_plan_130 rfl ?_
    refine xr_VV (y := yX3_keeps) (As := []) (r := (some l0)) F (hno _) dX3_plan_131 (fun z => fX3_keeps_m (xFG F) z) (Or.inl rfl) (ci := 39) (C := RX3) (T := TX3) rfl q3877 q3874 q3876 qs107 (xroom hRm (Nat.le_of_ble_eq_true rfl) (Nat.le_of_ble_eq_true rfl)) ⟨by decide, by decide⟩ n_X3_keeps rfl (xcat (Nat.le_of_ble_eq_true rfl)) (fun _ => ?_)
    refine xr_aload_n 0 (r := (some l0)) F dX3_plan_134 rfl ?_
    refine xr_gR (r := (some l0)) (ref := "ReserveLedgerModel") F dX3_plan_135 (C := RX3) (T := TX3) (N := 25) rfl (by decide) (Or.inl q3416) (Or.inl rfl) (fun v135 => ?_)
    refine xr_iconst (0 : Int32) F dX3_plan_138 rfl ?_
    refine xr_iload_n 1 F dX3_plan_139 rfl ?_
    refine xr_iast (r := v135) F dX3_plan_140 ?_
    refine xr_aload_n 0 (r := (some l0)) F dX3_plan_141 rfl ?_
    refine xr_gR (r := (some l0)) (ref := "ReserveLedgerModel") F dX3_plan_142 (C := RX3) (T := TX3) (N := 25) rfl (by decide) (Or.inl q3416) (Or.inl rfl) (fun v142 => ?_)
    refine xr_iconst (1 : Int32) F dX3_plan_145 rfl ?_
    refine xr_iload_n 2 F dX3_plan_146 rfl ?_
    refine xr_iast (r := v142) F dX3_plan_147 ?_
    refine xr_aload_n 0 (r := (some l0)) F dX3_plan_148 rfl ?_
    refine xr_gR (r := (some l0)) (ref := "ReserveLedgerModel") F dX3_plan_149 (C := RX3) (T := TX3) (N := 25) rfl (by decide) (Or.inl q3416) (Or.inl rfl) (fun v149 => ?_)
    refine xr_iconst (2 : Int32) F dX3_plan_152 rfl ?_
    refine xr_iload_n 3 F dX3_plan_153 rfl ?_
    refine xr_iast (r := v149) F dX3_plan_154 ?_
    refine xr_aload_n 0 (r := (some l0)) F dX3_plan_155 rfl ?_
    refine xr_gR (r := (some l0)) (ref := "ReserveLedgerModel") F dX3_plan_156 (C := RX3) (T := TX3) (N := 25) rfl (by decide) (Or.inl q3416) (Or.inl rfl) (fun v156 => ?_)
    refine xr_iconst (3 : Int32) F dX3_plan_159 rfl ?_
    refine xr_iload 4 F dX3_plan_160 rfl ?_
    refine xr_iast (r := v156) F dX3_plan_162 ?_
    refine xr_aload_n 0 (r := (some l0)) F dX3_plan_163 rfl ?_
    refine xr_gR (r := (some l0)) (ref := "ReserveLedgerModel") F dX3_plan_164 (C := RX3) (T := TX3) (N := 25) rfl (by decide) (Or.inl q3416) (Or.inl rfl) (fun v164 => ?_)
    refine xr_iconst (4 : Int32) F dX3_plan_167 rfl ?_
    refine xr_iload 5 F dX3_plan_168 rfl ?_
    refine xr_iast (r := v164) F dX3_plan_170 ?_
    refine xr_iconst (0 : Int32) F dX3_plan_171 rfl ?_
    refine xr_letI (fun x7_172 => ?_)
    refine xs_i [0] F dX3_plan_172 hnL rfl rfl (xk1 rfl rfl xk0) ?_
    exact xI.sub [1, 0] rfl (fX3_plan_p174_ok F hnL hRm hno hmn xFU l0 x7_172)
  · refine xr_iconst (0 : Int32) F dX3_plan_128 rfl ?_
    exact xr_iret F dX3_plan_129
theorem fX3_plan_p97_ok {x : xC} (F : xF x RX3 cX3_plan (some .int)) (hnL : xnL x = 9) (hRm : ∃ dc ds, x.2.2.2.1 = { frames := 5, cells := dc, slots := ds, locals := 98 }) (hno : ∀ pc, xNo x pc) (hmn : xmn x = "plan" ∧ xmy x yX3_plan) (l0 : Nat) (l1 : Int32) (l2 : Int32) (l3 : Int32) (l4 : Int32) (l5 : Int32) (s0 : Int32) (s1 : Nat) : xI x xeI 97 [(0, va_rf (some l0)), (1, .int l1), (2, .int l2), (3, .int l3), (4, .int l4), (5, .int l5)] [.int s0, va_rf (some s1)] (fX3_plan_p97 l0 l1 l2 l3 l4 l5 s0 s1) := by
  unfold fX3_plan_p97
  refine xr_iconst (2 : Int32) F dX3_plan_97 rfl ?_
  refine xr_VI (y := yX3_throwsIf) (As := [.int s0, .int (2 : Int32)]) (r := (some s1)) F (hno _) dX3_plan_98 (fun z => fX3_throwsIf_m (xFG F) z s0 (2 : Int32)) (Or.inl rfl) (ci := 39) (C := RX3) (T := TX3) rfl q3634 q3631 q3633 qs79 (xroom hRm (Nat.le_of_ble_eq_true rfl) (Nat.le_of_ble_eq_true rfl)) ⟨by decide, by decide⟩ n_X3_throwsIf rfl (xcat (Nat.le_of_ble_eq_true rfl)) (fun v98 => ?_)
  refine xr_if_ne 128 F dX3_plan_101 rfl ?_ ?_
  · refine xr_aload_n 0 (r := (some l0)) F dX3_plan_104 rfl ?_
    refine xr_aload_n 0 (r := (some l0)) F dX3_plan_105 rfl ?_
    refine xr_gR (r := (some l0)) (ref := "ReserveLedgerModel") F dX3_plan_106 (C := RX3) (T := TX3) (N := 25) rfl (by decide) (Or.inl q3395) (Or.inl rfl) (fun v106 => ?_)
    refine xr_iconst (3 : Int32) F dX3_plan_109 rfl ?_
    refine xr_iald (r := v106) F dX3_plan_110 (fun v110 => ?_)
    refine xr_bipush (12 : Int32) F dX3_plan_111 rfl ?_
    refine xr_icmp_ne 120 F dX3_plan_113 rfl ?_ ?_
    · refine xr_iconst (1 : Int32) F dX3_plan_116 rfl ?_
      refine xr_goto 121 F dX3_plan_117 rfl ?_
      exact xI.sub [0, 1, 2, 3, 4, 5] rfl (fX3_plan_p121_ok F hnL hRm hno hmn l0 l1 l2 l3 l4 l5 (1 : Int32) l0)
    · refine xr_iconst (0 : Int32) F dX3_plan_120 rfl ?_
      exact xI.sub [0, 1, 2, 3, 4, 5] rfl (fX3_plan_p121_ok F hnL hRm hno hmn l0 l1 l2 l3 l4 l5 (0 : Int32) l0)
  · refine xr_iconst (0 : Int32) F dX3_plan_128 rfl ?_
    exact xr_iret F dX3_plan_129
theorem fX3_plan_p74_ok {x : xC} (F : xF x RX3 cX3_plan (some .int)) (hnL : xnL x = 9) (hRm : ∃ dc ds, x.2.2.2.1 = { frames := 5, cells := dc, slots := ds, locals := 98 }) (hno : ∀ pc, xNo x pc) (hmn : xmn x = "plan" ∧ xmy x yX3_plan) (l0 : Nat) (l1 : Int32) (l2 : Int32) (l3 : Int32) (l4 : Int32) (l5 : Int32) (s0 : Int32) : xI x xeI 74 [(0, va_rf (some l0)), (1, .int l1), (2, .int l2), (3, .int l3), (4, .int l4), (5, .int l5)] [.int s0] (fX3_plan_p74 l0 l1 l2 l3 l4 l5 s0) := by
  unfold fX3_plan_p74
  refine xs_i [0, 1, 2, 3, 4, 5] F dX3_plan_74 hnL rfl rfl (xk1 rfl rfl (xk1 rfl rfl (xk1 rfl rfl (xk1 rfl rfl (xk1 rfl rfl (xk2 rfl rfl xk0)))))) ?_
  refine xr_aload_n 1 (r := (some l0)) F dX3_plan_76 rfl ?_
  refine xr_iload_n 4 F dX3_plan_77 rfl ?_
  refine xr_iload 5 F dX3_plan_78 rfl ?_
  refine xr_VI (y := yX3_noAge) (As := [.int l3, .int l4]) (r := (some l0)) F (hno _) dX3_plan_80 (fun z => fX3_noAge_m (xFG F) z l3 l4) (Or.inl rfl) (ci := 39) (C := RX3) (T := TX3) rfl q3702 q3699 q3701 qs89 (xroom hRm (Nat.le_of_ble_eq_true rfl) (Nat.le_of_ble_eq_true rfl)) ⟨by decide, by decide⟩ n_X3_noAge rfl (xcat (Nat.le_of_ble_eq_true rfl)) (fun v80 => ?_)
  refine xr_if_ne 128 F dX3_plan_83 rfl ?_ ?_
  · refine xr_aload_n 1 (r := (some l0)) F dX3_plan_86 rfl ?_
    refine xr_iload 0 F dX3_plan_87 rfl ?_
    refine xr_if_ne 96 F dX3_plan_89 rfl ?_ ?_
    · refine xr_iconst (1 : Int32) F dX3_plan_92 rfl ?_
      refine xr_goto 97 F dX3_plan_93 rfl ?_
      exact xI.sub [1, 2, 3, 4, 5, 6] rfl (fX3_plan_p97_ok F hnL hRm hno hmn l0 l1 l2 l3 l4 l5 (1 : Int32) l0)
    · refine xr_iconst (0 : Int32) F dX3_plan_96 rfl ?_
      exact xI.sub [1, 2, 3, 4, 5, 6] rfl (fX3_plan_p97_ok F hnL hRm hno hmn l0 l1 l2 l3 l4 l5 (0 : Int32) l0)
  · refine xr_iconst (0 : Int32) F dX3_plan_128 rfl ?_
    exact xr_iret F dX3_plan_129
theorem fX3_plan_p69_ok {x : xC} (F : xF x RX3 cX3_plan (some .int)) (hnL : xnL x = 9) (hRm : ∃ dc ds, x.2.2.2.1 = { frames := 5, cells := dc, slots := ds, locals := 98 }) (hno : ∀ pc, xNo x pc) (hmn : xmn x = "plan" ∧ xmy x yX3_plan) (l0 : Nat) (l1 : Int32) (l2 : Int32) (l3 : Int32) (l4 : Int32) (l5 : Int32) : xI x xeI 69 [(0, va_rf (some l0)), (1, .int l1), (2, .int l2), (3, .int l3), (4, .int l4), (5, .int l5)] [] (fX3_plan_p69 l0 l1 l2 l3 l4 l5) := by
  unfold fX3_plan_p69
  refine xr_iconst (1 : Int32) F dX3_plan_69 rfl ?_
  refine xr_goto 74 F dX3_plan_70 rfl ?_
  exact xI.sub [0, 1, 2, 3, 4, 5] rfl (fX3_plan_p74_ok F hnL hRm hno hmn l0 l1 l2 l3 l4 l5 (1 : Int32))
theorem fX3_plan_p73_ok {x : xC} (F : xF x RX3 cX3_plan (some .int)) (hnL : xnL x = 9) (hRm : ∃ dc ds, x.2.2.2.1 = { frames := 5, cells := dc, slots := ds, locals := 98 }) (hno : ∀ pc, xNo x pc) (hmn : xmn x = "plan" ∧ xmy x yX3_plan) (l0 : Nat) (l1 : Int32) (l2 : Int32) (l3 : Int32) (l4 : Int32) (l5 : Int32) : xI x xeI 73 [(0, va_rf (some l0)), (1, .int l1), (2, .int l2), (3, .int l3), (4, .int l4), (5, .int l5)] [] (fX3_plan_p73 l0 l1 l2 l3 l4 l5) := by
  unfold fX3_plan_p73
  refine xr_iconst (0 : Int32) F dX3_plan_73 rfl ?_
  exact xI.sub [0, 1, 2, 3, 4, 5] rfl (fX3_plan_p74_ok F hnL hRm hno hmn l0 l1 l2 l3 l4 l5 (0 : Int32))
theorem fX3_plan_m {l : Launch} {D : xD} {s0 : State} {b0 : Nat} {Γ : Nat → Option Nat} (G : xG l D s0 b0 Γ) (a0 : Nat) (p0 : Int32) (p1 : Int32) (p2 : Int32) (p3 : Int32) (p4 : Int32) : xMeth l D s0 Γ yX3_plan (Cond.code yX3_plan cX3_plan 9 (some .int)) (5) (98) [.ref a0, .int p0, .int p1, .int p2, .int p3, .int p4] xeI (fX3_plan a0 p0 p1 p2 p3 p4) := by
  refine xMeth.of (lv0 := [(0, va_rf (some a0)), (1, .int p0), (2, .int p1), (3, .int p2), (4, .int p3), (5, .int p4)]) G (by decide +kernel) (Or.inl rfl) (Nat.le_of_ble_eq_true rfl) rfl (fun x F hnL hRm hmn ht e1 e2 e3 e4 => ?_)
  have hno : ∀ pc, xNo x pc := fun pc z hz => by rw [ht.1 rfl] at hz; cases hz
  unfold fX3_plan
  refine xr_aload_n 0 (r := (some a0)) F dX3_plan_0 rfl ?_
  refine xr_iconst (0 : Int32) F dX3_plan_1 rfl ?_
  refine xr_put (r := (some a0)) (ref := "ReserveLedgerModel") F dX3_plan_2 xk_39 (by decide) (Or.inl q3394) (Or.inl rfl) (Or.inl rfl) ⟨rfl, rfl⟩ ?_
  refine xr_iload_n 1 F dX3_plan_5 rfl ?_
  refine xr_i2l F dX3_plan_6 ?_
  refine xr_aload_n 0 (r := (some a0)) F dX3_plan_7 rfl ?_
  refine xr_gR (r := (some a0)) (ref := "ReserveLedgerModel") F dX3_plan_8 (C := RX3) (T := TX3) (N := 25) rfl (by decide) (Or.inl q3395) (Or.inl rfl) (fun v8 => ?_)
  refine xr_iconst (1 : Int32) F dX3_plan_11 rfl ?_
  refine xr_iald (r := v8) F dX3_plan_12 (fun v12 => ?_)
  refine xr_i2l F dX3_plan_13 ?_
  refine xr_ldc2 F dX3_plan_14 q3931 ?_
  refine xr_SI (y := yX3_in) (As := [.long p0.toInt64, .long v12.toInt64, .long (9999 : Int64)]) F (hno _) dX3_plan_17 (fX3_in_m (xFG F) p0.toInt64 v12.toInt64 (9999 : Int64)) (Or.inl rfl) q3544 q144 (Or.inl q3542) q3543 (xroom hRm (Nat.le_of_ble_eq_true rfl) (Nat.le_of_ble_eq_true rfl)) ⟨by decide, by decide⟩ n_X3_in rfl (xcat (Nat.le_of_ble_eq_true rfl)) (fun v17 => ?_)
  refine xr_if_eq 73 F dX3_plan_20 rfl ?_ ?_
  · exact xI.sub [0, 1, 2, 3, 4, 5] rfl (fX3_plan_p73_ok F hnL hRm hno hmn a0 p0 p1 p2 p3 p4)
  · refine xr_iload_n 2 F dX3_plan_23 rfl ?_
    refine xr_i2l F dX3_plan_24 ?_
    refine xr_lconst 0 F dX3_plan_25 rfl ?_
    refine xr_ldc2 F dX3_plan_26 q3932 ?_
    refine xr_SI (y := yX3_in) (As := [.long p1.toInt64, .long (0 : Int64), .long (2 : Int64)]) F (hno _) dX3_plan_29 (fX3_in_m (xFG F) p1.toInt64 (0 : Int64) (2 : Int64)) (Or.inl rfl) q3544 q144 (Or.inl q3542) q3543 (xroom hRm (Nat.le_of_ble_eq_true rfl) (Nat.le_of_ble_eq_true rfl)) ⟨by decide, by decide⟩ n_X3_in rfl (xcat (Nat.le_of_ble_eq_true rfl)) (fun v29 => ?_)
    refine xr_if_eq 73 F dX3_plan_32 rfl ?_ ?_
    · exact xI.sub [0, 1, 2, 3, 4, 5] rfl (fX3_plan_p73_ok F hnL hRm hno hmn a0 p0 p1 p2 p3 p4)
    · refine xr_iload_n 2 F dX3_plan_35 rfl ?_
      refine xr_iconst (2 : Int32) F dX3_plan_36 rfl ?_
      refine xr_icmp_ne 56 F dX3_plan_37 rfl ?_ ?_
      · refine xr_iload 5 F dX3_plan_40 rfl ?_
        refine xr_i2l F dX3_plan_42 ?_
        refine xr_lconst 0 F dX3_plan_43 rfl ?_
        refine xr_ldc2 F dX3_plan_44 q3720 ?_
        refine xr_SI (y := yX3_in) (As := [.long p4.toInt64, .long (0 : Int64), .long (1000 : Int64)]) F (hno _) dX3_plan_47 (fX3_in_m (xFG F) p4.toInt64 (0 : Int64) (1000 : Int64)) (Or.inl rfl) q3544 q144 (Or.inl q3542) q3543 (xroom hRm (Nat.le_of_ble_eq_true rfl) (Nat.le_of_ble_eq_true rfl)) ⟨by decide, by decide⟩ n_X3_in rfl (xcat (Nat.le_of_ble_eq_true rfl)) (fun v47 => ?_)
        refine xr_if_eq 73 F dX3_plan_50 rfl ?_ ?_
        · exact xI.sub [0, 1, 2, 3, 4, 5] rfl (fX3_plan_p73_ok F hnL hRm hno hmn a0 p0 p1 p2 p3 p4)
        · refine xr_goto 69 F dX3_plan_53 rfl ?_
          exact xI.sub [0, 1, 2, 3, 4, 5] rfl (fX3_plan_p69_ok F hnL hRm hno hmn a0 p0 p1 p2 p3 p4)
      · refine xr_iload 5 F dX3_plan_56 rfl ?_
        refine xr_i2l F dX3_plan_58 ?_
        refine xr_lconst 1 F dX3_plan_59 rfl ?_
        refine xr_ldc2 F dX3_plan_60 q3843 ?_
        refine xr_SI (y := yX3_in) (As := [.long p4.toInt64, .long (1 : Int64), .long (1000000 : Int64)]) F (hno _) dX3_plan_63 (fX3_in_m (xFG F) p4.toInt64 (1 : Int64) (1000000 : Int64)) (Or.inl rfl) q3544 q144 (Or.inl q3542) q3543 (xroom hRm (Nat.le_of_ble_eq_true rfl) (Nat.le_of_ble_eq_true rfl)) ⟨by decide, by decide⟩ n_X3_in rfl (xcat (Nat.le_of_ble_eq_true rfl)) (fun v63 => ?_)
        refine xr_if_eq 73 F dX3_plan_66 rfl ?_ ?_
        · exact xI.sub [0, 1, 2, 3, 4, 5] rfl (fX3_plan_p73_ok F hnL hRm hno hmn a0 p0 p1 p2 p3 p4)
        · exact xI.sub [0, 1, 2, 3, 4, 5] rfl (fX3_plan_p69_ok F hnL hRm hno hmn a0 p0 p1 p2 p3 p4)
