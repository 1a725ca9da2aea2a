theorem fX4_parse_p34_ok {x : xC} (F : xF x RX4 cX4_parse (some (.object "ReserveLedger$State"))) (hnL : xnL x = 3) (hRm : ∃ dc ds, x.2.2.2.1 = { frames := 5004, cells := dc, slots := ds, locals := 112081 }) (hno : ∀ pc, xNo x pc) (hmn : xmn x = "parse" ∧ xmy x yX4_parse) : ∀ (n : Nat) (l0 : Nat) (l1 : Option Nat), xI x xeR 34 [(0, va_rf (some l0)), (1, va_rf l1)] [] (fX4_parse_p34 n l0 l1) := by
  intro n
  induction n with
  | zero => intro l0 l1; exact xI.stuck
  | succ n ih =>
    intro l0 l1
    unfold fX4_parse_p34
    refine xr_aload_n 1 (r := l1) F dX4_parse_34 rfl ?_
    refine xr_FI (x0 := ⟨"java/util/Iterator", "hasNext", "()Z"⟩) (y := yJ20_hasNext) (As := []) (r := l1) F (hno _) dX4_parse_35 (fun z => fJ20_hasNext_m (xFG F) z) rfl (ci := 7) (C := RJ20) (T := TJ20) rfl q853 q1857 q851 q849 q826 q825 q852 q850 q848 (xroom hRm (Nat.le_of_ble_eq_true rfl) (Nat.le_of_ble_eq_true rfl)) ⟨by decide, by decide⟩ n_J20_hasNext rfl (xcat (Nat.le_of_ble_eq_true rfl)) (fun v35 => ?_)
    refine xr_if_eq 67 F dX4_parse_40 rfl ?_ ?_
    · refine xr_aload_n 0 (r := (some l0)) F dX4_parse_67 rfl ?_
      refine xr_gR (r := (some l0)) (ref := "ReserveLedger$Parser") F dX4_parse_68 (C := RX4) (T := TX4) (N := 5) rfl (by decide) (Or.inl q1758) (Or.inl rfl) (fun v68 => ?_)
      exact xr_aret (v := v68) F dX4_parse_71 (Or.inl ⟨_, rfl⟩)
    · refine xr_aload_n 1 (r := l1) F dX4_parse_43 rfl ?_
      refine xr_FR (x0 := ⟨"java/util/Iterator", "next", "()Ljava/lang/Object;"⟩) (y := yJ20_next) (As := []) (r := l1) F (hno _) dX4_parse_44 (fun z => fJ20_next_m (xFG F) z) rfl (ci := 7) (C := RJ20) (T := TJ20) rfl q1075 q1859 q1073 q1071 q885 q884 q1074 q1072 q848 (xroom hRm (Nat.le_of_ble_eq_true rfl) (Nat.le_of_ble_eq_true rfl)) ⟨by decide, by decide⟩ n_J20_next rfl (xcat (Nat.le_of_ble_eq_true rfl)) (fun v44 => ?_)
      refine xr_castE (ci := 19) (r := v44) F dX4_parse_49 q1860 rfl ?_
      refine xs_a_n [0, 1] F dX4_parse_52 hnL rfl rfl (xk1 rfl rfl (xk2 rfl (xrf_cat _) xk0)) ?_
      refine xr_aload_n 0 (r := v44) F dX4_parse_53 rfl ?_
      refine xr_aload_n 1 (r := (some l0)) F dX4_parse_54 rfl ?_
      refine xr_gR (r := (some l0)) (ref := "ReserveLedger$Parser") F dX4_parse_55 (C := RX4) (T := TX4) (N := 5) rfl (by decide) (Or.inl q1758) (Or.inl rfl) (fun v55 => ?_)
      refine xr_gI (r := v55) (ref := "ReserveLedger$State") F dX4_parse_58 (C := RX2) (T := TX2) (N := 5) rfl (by decide) (Or.inr ⟨_, q590⟩) (Or.inl rfl) (fun v58 => ?_)
      refine xr_VV (y := yX6_begin) (As := [.int v58]) (r := v44) F (hno _) dX4_parse_61 (fun z => fX6_begin_m (xFG F) z v58) (Or.inr ⟨_, rfl⟩) (ci := 19) (C := RX6) (T := TX6) rfl q2312 q2309 q2310 q2311 (xroom hRm (Nat.le_of_ble_eq_true rfl) (Nat.le_of_ble_eq_true rfl)) ⟨by decide, by decide⟩ n_X6_begin rfl (xcat (Nat.le_of_ble_eq_true rfl)) (fun _ => ?_)
      refine xr_goto 34 F dX4_parse_64 rfl ?_
      exact xI.sub [1, 2] rfl (ih l0 l1)
theorem fX4_parse_p0_ok {x : xC} (F : xF x RX4 cX4_parse (some (.object "ReserveLedger$State"))) (hnL : xnL x = 3) (hRm : ∃ dc ds, x.2.2.2.1 = { frames := 5004, cells := dc, slots := ds, locals := 112081 }) (hno : ∀ pc, xNo x pc) (hmn : xmn x = "parse" ∧ xmy x yX4_parse) : ∀ (n : Nat) (l0 : Nat), xI x xeR 0 [(0, va_rf (some l0))] [] (fX4_parse_p0 n l0) := by
  intro n
  induction n with
  | zero => intro l0; exact xI.stuck
  | succ n ih =>
    intro l0
    unfold fX4_parse_p0
    refine xr_aload_n 0 (r := (some l0)) F dX4_parse_0 rfl ?_
    refine xr_VI (y := yX4_peek) (As := []) (r := (some l0)) F (hno _) dX4_parse_1 (fun z => fX4_peek_m (xFG F) z) (Or.inl rfl) (ci := 17) (C := RX4) (T := TX4) rfl q1778 q1775 q1777 qs14 (xroom hRm (Nat.le_of_ble_eq_true rfl) (Nat.le_of_ble_eq_true rfl)) ⟨by decide, by decide⟩ n_X4_peek rfl (xcat (Nat.le_of_ble_eq_true rfl)) (fun v1 => ?_)
    refine xr_iconst (-1 : Int32) F dX4_parse_4 rfl ?_
    refine xr_icmp_eq 21 F dX4_parse_5 rfl ?_ ?_
    · refine xr_aload_n 0 (r := (some l0)) F dX4_parse_21 rfl ?_
      refine xr_gR (r := (some l0)) (ref := "ReserveLedger$Parser") F dX4_parse_22 (C := RX4) (T := TX4) (N := 5) rfl (by decide) (Or.inl q1758) (Or.inl rfl) (fun v22 => ?_)
      refine xr_gR (r := v22) (ref := "ReserveLedger$State") F dX4_parse_25 (C := RX2) (T := TX2) (N := 5) rfl (by decide) (Or.inr ⟨_, q585⟩) (Or.inl rfl) (fun v25 => ?_)
      refine xr_FR (x0 := ⟨"java/util/List", "iterator", "()Ljava/util/Iterator;"⟩) (y := yJ2_iterator) (As := []) (r := v25) F (hno _) dX4_parse_28 (fun z => fJ2_iterator_m (xFG F) z) rfl (ci := 2) (C := RJ2) (T := TJ2) rfl q693 q1855 q691 q689 q687 q686 q692 q690 q688 (xroom hRm (Nat.le_of_ble_eq_true rfl) (Nat.le_of_ble_eq_true rfl)) ⟨by decide, by decide⟩ n_J2_iterator rfl (xcat (Nat.le_of_ble_eq_true rfl)) (fun v28 => ?_)
      refine xs_a_n [0] F dX4_parse_33 hnL rfl rfl (xk2 rfl (xrf_cat _) xk0) ?_
      exact xI.sub [1, 0] rfl (fX4_parse_p34_ok F hnL hRm hno hmn xFU l0 v28)
    · refine xr_aload_n 0 (r := (some l0)) F dX4_parse_8 rfl ?_
      refine xr_VV (y := yX4_line) (As := []) (r := (some l0)) F (hno _) dX4_parse_9 (fun z => fX4_line_m (xFG F) z) (Or.inl rfl) (ci := 17) (C := RX4) (T := TX4) rfl q1786 q1783 q1785 qs16 (xroom hRm (Nat.le_of_ble_eq_true rfl) (Nat.le_of_ble_eq_true rfl)) ⟨by decide, by decide⟩ n_X4_line rfl (xcat (Nat.le_of_ble_eq_true rfl)) (fun _ => ?_)
      refine xr_aload_n 0 (r := (some l0)) F dX4_parse_12 rfl ?_
      refine xr_bipush (59 : Int32) F dX4_parse_13 rfl ?_
      refine xr_VV (y := yX4_sign) (As := [.int (59 : Int32)]) (r := (some l0)) F (hno _) dX4_parse_15 (fun z => fX4_sign_m (xFG F) z (59 : Int32)) (Or.inl rfl) (ci := 17) (C := RX4) (T := TX4) rfl q2250 q2247 q2249 qs31 (xroom hRm (Nat.le_of_ble_eq_true rfl) (Nat.le_of_ble_eq_true rfl)) ⟨by decide, by decide⟩ n_X4_sign rfl (xcat (Nat.le_of_ble_eq_true rfl)) (fun _ => ?_)
      refine xr_goto 0 F dX4_parse_18 rfl ?_
      exact xI.sub [0] rfl (ih l0)
theorem fX4_parse_m {l : Launch} {D : xD} {s0 : State} {b0 : Nat} {Γ : Nat → Option Nat} (G : xG l D s0 b0 Γ) (a0 : Nat) : xMeth l D s0 Γ yX4_parse (Cond.code yX4_parse cX4_parse 3 (some (.object "ReserveLedger$State"))) (5004) (112081) [.ref a0] xeR (fX4_parse a0) := by
  refine xMeth.of (lv0 := [(0, va_rf (some a0))]) G (by decide +kernel) (Or.inl rfl) (Nat.le_of_ble_eq_true rfl) rfl (fun x F hnL hRm hmn ht e1 e2 e3 e4 => ?_)
  have hno : ∀ pc, xNo x pc := fun pc z hz => by rw [ht.1 rfl] at hz; cases hz
  unfold fX4_parse
  exact xI.sub [0] rfl (fX4_parse_p0_ok F hnL hRm hno hmn xFU a0)
theorem fJ19_clear_p5_ok {x : xC} (F : xF x RJ19 cJ19_clear none) (hnL : xnL x = 3) (hRm : ∃ dc ds, x.2.2.2.1 = { frames := 1, cells := dc, slots := ds, locals := 12 }) (hno : ∀ pc, xNo x pc) (hmn : xmn x = "clear" ∧ xmy x yJ19_clear) : ∀ (n : Nat) (l0 : Nat) (l1 : Option Nat), xI x xeV 5 [(0, va_rf (some l0)), (1, va_rf l1)] [] (fJ19_clear_p5 n l0 l1) := by
  intro n
  induction n with
  | zero => intro l0 l1; exact xI.stuck
  | succ n ih =>
    intro l0 l1
    unfold fJ19_clear_p5
    refine xr_aload_n 1 (r := l1) F dJ19_clear_5 rfl ?_
    refine xr_ifnull 34 F dJ19_clear_6 rfl ?_ ?_
    · refine xr_aload_n 0 (r := (some l0)) F dJ19_clear_34 rfl ?_
      refine xr_aload_n 0 (r := (some l0)) F dJ19_clear_35 rfl ?_
      refine xr_null F dJ19_clear_36 ?_
      refine xr_dup_x1 F dJ19_clear_37 (xrf_cat _) (xrf_cat _) ?_
      refine xr_put (r := (some l0)) (ref := "java/util/LinkedList") F dJ19_clear_38 xk_6 (by decide) (Or.inl q574) (Or.inl rfl) (Or.inl rfl) (xr_rf _ _) ?_
      refine xr_put (r := (some l0)) (ref := "java/util/LinkedList") F dJ19_clear_41 xk_6 (by decide) (Or.inl q573) (Or.inl rfl) (Or.inl rfl) (xr_rf _ _) ?_
      refine xr_aload_n 0 (r := (some l0)) F dJ19_clear_44 rfl ?_
      refine xr_iconst (0 : Int32) F dJ19_clear_45 rfl ?_
      refine xr_put (r := (some l0)) (ref := "java/util/LinkedList") F dJ19_clear_46 xk_6 (by decide) (Or.inl q571) (Or.inl rfl) (Or.inl rfl) ⟨rfl, rfl⟩ ?_
      refine xr_aload_n 0 (r := (some l0)) F dJ19_clear_49 rfl ?_
      refine xr_dup F dJ19_clear_50 (xrf_cat _) ?_
      refine xr_gI (r := (some l0)) (ref := "java/util/LinkedList") F dJ19_clear_51 (C := RJ19) (T := TJ19) (N := 4) rfl (by decide) (Or.inl q553) (Or.inr q549) (fun v51 => ?_)
      refine xr_iconst (1 : Int32) F dJ19_clear_54 rfl ?_
      refine xr_iadd F dJ19_clear_55 ?_
      refine xr_put (r := (some l0)) (ref := "java/util/LinkedList") F dJ19_clear_56 xk_6 (by decide) (Or.inl q553) (Or.inr q549) (Or.inl rfl) ⟨rfl, rfl⟩ ?_
      exact xr_vret F dJ19_clear_59
    · refine xr_aload_n 1 (r := l1) F dJ19_clear_9 rfl ?_
      refine xr_gR (r := l1) (ref := "java/util/LinkedList$Node") F dJ19_clear_10 (C := RJ30) (T := TJ30) (N := 3) rfl (by decide) (Or.inl q2127) (Or.inl rfl) (fun v10 => ?_)
      refine xs_a_n [0, 1] F dJ19_clear_13 hnL rfl rfl (xk1 rfl rfl (xk2 rfl (xrf_cat _) xk0)) ?_
      refine xr_aload_n 2 (r := l1) F dJ19_clear_14 rfl ?_
      refine xr_null F dJ19_clear_15 ?_
      refine xr_put (r := l1) (ref := "java/util/LinkedList$Node") F dJ19_clear_16 xk_25 (by decide) (Or.inl q2124) (Or.inl rfl) (Or.inl rfl) (xr_rf _ _) ?_
      refine xr_aload_n 2 (r := l1) F dJ19_clear_19 rfl ?_
      refine xr_null F dJ19_clear_20 ?_
      refine xr_put (r := l1) (ref := "java/util/LinkedList$Node") F dJ19_clear_21 xk_25 (by decide) (Or.inl q2127) (Or.inl rfl) (Or.inl rfl) (xr_rf _ _) ?_
      refine xr_aload_n 2 (r := l1) F dJ19_clear_24 rfl ?_
      refine xr_null F dJ19_clear_25 ?_
      refine xr_put (r := l1) (ref := "java/util/LinkedList$Node") F dJ19_clear_26 xk_25 (by decide) (Or.inl q2129) (Or.inl rfl) (Or.inl rfl) (xr_rf _ _) ?_
      refine xr_aload_n 0 (r := v10) F dJ19_clear_29 rfl ?_
      refine xs_a_n [1] F dJ19_clear_30 hnL rfl rfl (xk2 rfl (xrf_cat _) xk0) ?_
      refine xr_goto 5 F dJ19_clear_31 rfl ?_
      exact xI.sub [1, 0] rfl (ih l0 v10)
theorem fJ19_clear_m {l : Launch} {D : xD} {s0 : State} {b0 : Nat} {Γ : Nat → Option Nat} (G : xG l D s0 b0 Γ) (a0 : Nat) : xMeth l D s0 Γ yJ19_clear (Cond.code yJ19_clear cJ19_clear 3 none) (1) (12) [.ref a0] xeV (fJ19_clear a0) := by
  refine xMeth.of (lv0 := [(0, va_rf (some a0))]) G (by decide +kernel) (Or.inl rfl) (Nat.le_of_ble_eq_true rfl) rfl (fun x F hnL hRm hmn ht e1 e2 e3 e4 => ?_)
  have hno : ∀ pc, xNo x pc := fun pc z hz => by rw [ht.1 rfl] at hz; cases hz
  unfold fJ19_clear
  refine xr_aload_n 0 (r := (some a0)) F dJ19_clear_0 rfl ?_
  refine xr_gR (r := (some a0)) (ref := "java/util/LinkedList") F dJ19_clear_1 (C := RJ19) (T := TJ19) (N := 4) rfl (by decide) (Or.inl q573) (Or.inl rfl) (fun v1 => ?_)
  refine xs_a_n [0] F dJ19_clear_4 hnL rfl rfl (xk2 rfl (xrf_cat _) xk0) ?_
  exact xI.sub [1, 0] rfl (fJ19_clear_p5_ok F hnL hRm hno hmn xFU a0 v1)
theorem fX1_load_m {l : Launch} {D : xD} {s0 : State} {b0 : Nat} {Γ : Nat → Option Nat} (G : xG l D s0 b0 Γ) (a0 : Nat) : xMeth l D s0 Γ yX1_load (Cond.codeWith yX1_load cX1_load 3 (some .int) [(10, 29, 37, 72), (10, 29, 62, 0), (37, 63, 62, 0)]) (5005) (112103) [.ref a0] xeI (fX1_load a0) := by
  refine xMeth.of (lv0 := [(0, va_rf (some a0))]) G (by decide +kernel) (Or.inr ⟨_, rfl⟩) (Nat.le_of_ble_eq_true rfl) rfl (fun x F hnL hRm hmn ht e1 e2 e3 e4 => ?_)
  have htb : x.2.2.2.2.2.2.2.2.2.1.exceptionTable.toList = tableOf [(10, 29, 37, 72), (10, 29, 62, 0), (37, 63, 62, 0)] := ht.2 _ rfl
  unfold fX1_load
  refine xr_aload_n 0 (r := (some a0)) F dX1_load_0 rfl ?_
  refine xr_iconst (-1 : Int32) F dX1_load_1 rfl ?_
  refine xr_put (r := (some a0)) (ref := "ReserveLedger") F dX1_load_2 xk_0 (by decide) (Or.inl q612) (Or.inl rfl) (Or.inl rfl) ⟨rfl, rfl⟩ ?_
  refine xr_aload_n 0 (r := (some a0)) F dX1_load_5 rfl ?_
  refine xr_iconst (0 : Int32) F dX1_load_6 rfl ?_
  refine xr_put (r := (some a0)) (ref := "ReserveLedger") F dX1_load_7 xk_0 (by decide) (Or.inl q613) (Or.inl rfl) (Or.inl rfl) ⟨rfl, rfl⟩ ?_
  refine xr_aload_n 0 (r := (some a0)) F dX1_load_10 rfl ?_
  refine xr_new F dX1_load_11 xk_17 xdf_17 q1747 q1748 q145 (fun v11 => ?_)
  refine xr_dup F dX1_load_14 (xrf_cat _) ?_
  refine xr_aload_n 0 (r := (some a0)) F dX1_load_15 rfl ?_
  refine xr_aload_n 0 (r := (some a0)) F dX1_load_16 rfl ?_
  refine xr_gI (r := (some a0)) (ref := "ReserveLedger") F dX1_load_17 (C := RX1) (T := TX1) (N := 7) rfl (by decide) (Or.inl q611) (Or.inl rfl) (fun v17 => ?_)
  refine xr_IVT (y := yX4_init) (As := [va_rf (some a0), .int v17]) F dX1_load_20 (fX4_init_m (xFG F) v11 (some a0) v17) rfl rfl q1751 (Or.inl q1749) q1750 (xroom hRm (Nat.le_of_ble_eq_true rfl) (Nat.le_of_ble_eq_true rfl)) ⟨by decide, by decide⟩ n_X4_init rfl (xcat (Nat.le_of_ble_eq_true rfl)) (fun _ => ?_) (fun q => ?_)
  · refine xr_VRT (y := yX4_parse) (As := []) (r := (some v11)) F dX1_load_23 (fun z => fX4_parse_m (xFG F) z) (Or.inl rfl) (ci := 17) (C := RX4) (T := TX4) rfl q1774 q1771 q1772 q1773 (xroom hRm (Nat.le_of_ble_eq_true rfl) (Nat.le_of_ble_eq_true rfl)) ⟨by decide, by decide⟩ n_X4_parse rfl (xcat (Nat.le_of_ble_eq_true rfl)) (fun v23 => ?_) (fun q => ?_)
    · refine xr_put (r := (some a0)) (ref := "ReserveLedger") F dX1_load_26 xk_0 (by decide) (Or.inl q614) (Or.inl rfl) (Or.inl rfl) (xr_rf _ _) ?_
      refine xr_aload_n 0 (r := (some a0)) F dX1_load_29 rfl ?_
      refine xr_iconst (0 : Int32) F dX1_load_30 rfl ?_
      refine xr_put (r := (some a0)) (ref := "ReserveLedger") F dX1_load_31 xk_0 (by decide) (Or.inl q611) (Or.inl rfl) (Or.inl rfl) ⟨rfl, rfl⟩ ?_
      refine xr_goto 70 F dX1_load_34 rfl ?_
      refine xr_aload_n 0 (r := (some a0)) F dX1_load_70 rfl ?_
      refine xr_gR (r := (some a0)) (ref := "ReserveLedger") F dX1_load_71 (C := RX1) (T := TX1) (N := 7) rfl (by decide) (Or.inl q615) (Or.inl rfl) (fun v71 => ?_)
      refine xr_VV (y := yJ19_clear) (As := []) (r := v71) F (xno_of htb rfl) dX1_load_74 (fun z => fJ19_clear_m (xFG F) z) (Or.inl rfl) (ci := 6) (C := RJ19) (T := TJ19) rfl q2465 q2462 q2463 q2464 (xroom hRm (Nat.le_of_ble_eq_true rfl) (Nat.le_of_ble_eq_true rfl)) ⟨by decide, by decide⟩ n_J19_clear rfl (xcat (Nat.le_of_ble_eq_true rfl)) (fun _ => ?_)
      refine xr_aload_n 0 (r := (some a0)) F dX1_load_77 rfl ?_
      refine xr_gR (r := (some a0)) (ref := "ReserveLedger") F dX1_load_78 (C := RX1) (T := TX1) (N := 7) rfl (by decide) (Or.inl q614) (Or.inl rfl) (fun v78 => ?_)
      refine xr_gR (r := v78) (ref := "ReserveLedger$State") F dX1_load_81 (C := RX2) (T := TX2) (N := 5) rfl (by decide) (Or.inr ⟨_, q584⟩) (Or.inl rfl) (fun v81 => ?_)
      refine xr_FI (x0 := ⟨"java/util/List", "size", "()I"⟩) (y := yJ2_size) (As := []) (r := v81) F (xno_of htb rfl) dX1_load_84 (fun z => fJ2_size_m (xFG F) z) rfl (ci := 2) (C := RJ2) (T := TJ2) rfl q838 q2467 q837 q1848 q1847 q1846 q1850 q1849 q688 (xroom hRm (Nat.le_of_ble_eq_true rfl) (Nat.le_of_ble_eq_true rfl)) ⟨by decide, by decide⟩ n_J2_size rfl (xcat (Nat.le_of_ble_eq_true rfl)) (fun v84 => ?_)
      exact xr_iret F dX1_load_89
    · refine xT.catch F htb (tableOf []) ⟨10, 29, 37, 72⟩ (tableOf [(10, 29, 62, 0), (37, 63, 62, 0)]) rfl rfl xps0 rfl (Or.inr ⟨by decide, _, q1746, q1813⟩) ?_
      refine xs_a_n [0] F dX1_load_37 hnL rfl rfl (xk2 rfl (xrf_cat _) xk0) ?_
      refine xr_aload_n 1 (r := (some a0)) F dX1_load_38 rfl ?_
      refine xr_aload_n 0 (r := (some q)) F dX1_load_39 rfl ?_
      refine xr_gI (r := (some q)) (ref := "ReserveLedger$TextError") F dX1_load_40 (C := RX5) (T := TX5) (N := 8) rfl (by decide) (Or.inr ⟨_, q1832⟩) (Or.inl rfl) (fun v40 => ?_)
      refine xr_put (r := (some a0)) (ref := "ReserveLedger") F dX1_load_43 xk_0 (by decide) (Or.inl q612) (Or.inl rfl) (Or.inl rfl) ⟨rfl, rfl⟩ ?_
      refine xr_aload_n 1 (r := (some a0)) F dX1_load_46 rfl ?_
      refine xr_aload_n 0 (r := (some q)) F dX1_load_47 rfl ?_
      refine xr_gI (r := (some q)) (ref := "ReserveLedger$TextError") F dX1_load_48 (C := RX5) (T := TX5) (N := 8) rfl (by decide) (Or.inr ⟨_, q1830⟩) (Or.inl rfl) (fun v48 => ?_)
      refine xr_put (r := (some a0)) (ref := "ReserveLedger") F dX1_load_51 xk_0 (by decide) (Or.inl q613) (Or.inl rfl) (Or.inl rfl) ⟨rfl, rfl⟩ ?_
      refine xr_mk (names := xnms) F dX1_load_54 dX1_load_57 dX1_load_58 rfl (by decide +kernel) (by decide +kernel) q2457 q129 xat_15 xag_15 (xao_15 13 q2457) (xroom hRm (Nat.le_of_ble_eq_true rfl) (Nat.le_of_ble_eq_true rfl)) (xcat (Nat.le_of_ble_eq_true rfl)) (fun v54 => ?_)
      refine xr_throwT (r := (some v54)) F dX1_load_61 (fun q => ?_)
      refine xT.catch F htb (tableOf [(10, 29, 37, 72), (10, 29, 62, 0)]) ⟨37, 63, 62, 0⟩ (tableOf []) rfl rfl (xps1 (Or.inl rfl) (xps1 (Or.inl rfl) xps0)) rfl (Or.inl rfl) ?_
      refine xs_a_n [1] F dX1_load_62 hnL rfl rfl (xk1 rfl rfl xk0) ?_
      refine xr_aload_n 1 (r := (some a0)) F dX1_load_63 rfl ?_
      refine xr_iconst (0 : Int32) F dX1_load_64 rfl ?_
      refine xr_put (r := (some a0)) (ref := "ReserveLedger") F dX1_load_65 xk_0 (by decide) (Or.inl q611) (Or.inl rfl) (Or.inl rfl) ⟨rfl, rfl⟩ ?_
      refine xr_aload_n 0 (r := (some q)) F dX1_load_68 rfl ?_
      exact xr_throw (r := (some q)) F dX1_load_69 (xno_of htb rfl)
  · exact xT.stuck
theorem fX0_load_m {l : Launch} {D : xD} {s0 : State} {b0 : Nat} {Γ : Nat → Option Nat} (G : xG l D s0 b0 Γ) (p0 : Option Nat) (p1 : Option Nat) : xMeth l D s0 Γ yX0_load (Cond.codeWith yX0_load cX0_load 3 (some .int) [(0, 8, 11, 13)]) (5006) (112125) [va_rf p0, va_rf p1] xeI (fX0_load p0 p1) := by
  refine xMeth.of (lv0 := [(0, va_rf p0), (1, va_rf p1)]) G (by decide +kernel) (Or.inr ⟨_, rfl⟩) (by simp [lg_sl, xrf_cat, xct_i, xct_l, xct_d, xct_r]) (by simp [lv_args, xrf_cat, xct_i, xct_l, xct_d, xct_r, xrf_some]) (fun x F hnL hRm hmn ht e1 e2 e3 e4 => ?_)
  have htb : x.2.2.2.2.2.2.2.2.2.1.exceptionTable.toList = tableOf [(0, 8, 11, 13)] := ht.2 _ rfl
  unfold fX0_load
  refine xr_aload_n 1 (r := p1) F dX0_load_0 rfl ?_
  refine xr_iconst (0 : Int32) F dX0_load_1 rfl ?_
  refine xr_aload_n 0 (r := p0) F dX0_load_2 rfl ?_
  refine xr_VIT (y := yX1_load) (As := []) (r := p0) F dX0_load_3 (fun z => fX1_load_m (xFG F) z) (Or.inr ⟨_, rfl⟩) (ci := 0) (C := RX1) (T := TX1) rfl q1745 q1742 q1743 q1744 (xroom hRm (Nat.le_of_ble_eq_true rfl) (Nat.le_of_ble_eq_true rfl)) ⟨by decide, by decide⟩ n_X1_load rfl (xcat (Nat.le_of_ble_eq_true rfl)) (fun v3 => ?_) (fun q => ?_)
  · refine xr_i2l F dX0_load_6 ?_
    refine xr_last (r := p1) F dX0_load_7 ?_
    refine xr_goto 14 F dX0_load_8 rfl ?_
    refine xr_iconst (0 : Int32) F dX0_load_14 rfl ?_
    exact xr_iret F dX0_load_15
  · refine xT.catch F htb (tableOf []) ⟨0, 8, 11, 13⟩ (tableOf []) rfl rfl xps0 rfl (Or.inr ⟨by decide, _, q1741, q226⟩) ?_
    refine xs_a_n [] F dX0_load_11 hnL rfl rfl xk0 ?_
    refine xr_iconst (1 : Int32) F dX0_load_12 rfl ?_
    exact xr_iret F dX0_load_13
theorem fJ19_size_m {l : Launch} {D : xD} {s0 : State} {b0 : Nat} {Γ : Nat → Option Nat} (G : xG l D s0 b0 Γ) (a0 : Nat) : xMeth l D s0 Γ yJ19_size (Cond.code yJ19_size cJ19_size 1 (some .int)) (1) (12) [.ref a0] xeI (fJ19_size a0) := by
  refine xMeth.of (lv0 := [(0, va_rf (some a0))]) G (by decide +kernel) (Or.inl rfl) (Nat.le_of_ble_eq_true rfl) rfl (fun x F hnL hRm hmn ht e1 e2 e3 e4 => ?_)
  have hno : ∀ pc, xNo x pc := fun pc z hz => by rw [ht.1 rfl] at hz; cases hz
  unfold fJ19_size
  refine xr_aload_n 0 (r := (some a0)) F dJ19_size_0 rfl ?_
  refine xr_gI (r := (some a0)) (ref := "java/util/LinkedList") F dJ19_size_1 (C := RJ19) (T := TJ19) (N := 4) rfl (by decide) (Or.inl q571) (Or.inl rfl) (fun v1 => ?_)
  exact xr_iret F dJ19_size_4
theorem fX1_count_m {l : Launch} {D : xD} {s0 : State} {b0 : Nat} {Γ : Nat → Option Nat} (G : xG l D s0 b0 Γ) (a0 : Nat) (p0 : Int32) : xMeth l D s0 Γ yX1_count (Cond.code yX1_count cX1_count 2 (some .int)) (6) (89) [.ref a0, .int p0] xeI (fX1_count a0 p0) := by
  refine xMeth.of (lv0 := [(0, va_rf (some a0)), (1, .int p0)]) G (by decide +kernel) (Or.inl rfl) (Nat.le_of_ble_eq_true rfl) rfl (fun x F hnL hRm hmn ht e1 e2 e3 e4 => ?_)
  have hno : ∀ pc, xNo x pc := fun pc z hz => by rw [ht.1 rfl] at hz; cases hz
  unfold fX1_count
  refine xr_iload_n 1 F dX1_count_0 rfl ?_
  refine xI.split (fun h_0 => ?_) (fun h_0 => ?_)
  · refine xr_tableIn 32 F dX1_count_1 (by rw [h_0]; decide) (by rw [h_0]; decide) (by rw [h_0]; rfl) rfl ?_
    refine xr_aload_n 0 (r := (some a0)) F dX1_count_32 rfl ?_
    refine xr_gR (r := (some a0)) (ref := "ReserveLedger") F dX1_count_33 (C := RX1) (T := TX1) (N := 7) rfl (by decide) (Or.inl q614) (Or.inl rfl) (fun v33 => ?_)
    refine xr_gR (r := v33) (ref := "ReserveLedger$State") F dX1_count_36 (C := RX2) (T := TX2) (N := 5) rfl (by decide) (Or.inr ⟨_, q584⟩) (Or.inl rfl) (fun v36 => ?_)
    refine xr_FI (x0 := ⟨"java/util/List", "size", "()I"⟩) (y := yJ2_size) (As := []) (r := v36) F (hno _) dX1_count_39 (fun z => fJ2_size_m (xFG F) z) rfl (ci := 2) (C := RJ2) (T := TJ2) rfl q838 q2467 q837 q1848 q1847 q1846 q1850 q1849 q688 (xroom hRm (Nat.le_of_ble_eq_true rfl) (Nat.le_of_ble_eq_true rfl)) ⟨by decide, by decide⟩ n_J2_size rfl (xcat (Nat.le_of_ble_eq_true rfl)) (fun v39 => ?_)
    exact xr_iret F dX1_count_44
  · refine xI.split (fun h_1 => ?_) (fun h_1 => ?_)
    · refine xr_tableIn 45 F dX1_count_1 (by rw [h_1]; decide) (by rw [h_1]; decide) (by rw [h_1]; rfl) rfl ?_
      refine xr_aload_n 0 (r := (some a0)) F dX1_count_45 rfl ?_
      refine xr_gR (r := (some a0)) (ref := "ReserveLedger") F dX1_count_46 (C := RX1) (T := TX1) (N := 7) rfl (by decide) (Or.inl q614) (Or.inl rfl) (fun v46 => ?_)
      refine xr_gI (r := v46) (ref := "ReserveLedger$State") F dX1_count_49 (C := RX2) (T := TX2) (N := 5) rfl (by decide) (Or.inr ⟨_, q589⟩) (Or.inl rfl) (fun v49 => ?_)
      exact xr_iret F dX1_count_52
    · refine xI.split (fun h_2 => ?_) (fun h_2 => ?_)
      · refine xr_tableIn 53 F dX1_count_1 (by rw [h_2]; decide) (by rw [h_2]; decide) (by rw [h_2]; rfl) rfl ?_
        refine xr_aload_n 0 (r := (some a0)) F dX1_count_53 rfl ?_
        refine xr_gR (r := (some a0)) (ref := "ReserveLedger") F dX1_count_54 (C := RX1) (T := TX1) (N := 7) rfl (by decide) (Or.inl q614) (Or.inl rfl) (fun v54 => ?_)
        refine xr_gI (r := v54) (ref := "ReserveLedger$State") F dX1_count_57 (C := RX2) (T := TX2) (N := 5) rfl (by decide) (Or.inr ⟨_, q592⟩) (Or.inl rfl) (fun v57 => ?_)
        exact xr_iret F dX1_count_60
      · refine xI.split (fun h_3 => ?_) (fun h_3 => ?_)
        · refine xr_tableIn 61 F dX1_count_1 (by rw [h_3]; decide) (by rw [h_3]; decide) (by rw [h_3]; rfl) rfl ?_
          refine xr_aload_n 0 (r := (some a0)) F dX1_count_61 rfl ?_
          refine xr_gR (r := (some a0)) (ref := "ReserveLedger") F dX1_count_62 (C := RX1) (T := TX1) (N := 7) rfl (by decide) (Or.inl q614) (Or.inl rfl) (fun v62 => ?_)
          refine xr_gR (r := v62) (ref := "ReserveLedger$State") F dX1_count_65 (C := RX2) (T := TX2) (N := 5) rfl (by decide) (Or.inr ⟨_, q587⟩) (Or.inl rfl) (fun v65 => ?_)
          refine xr_VI (y := yJ19_size) (As := []) (r := v65) F (hno _) dX1_count_68 (fun z => fJ19_size_m (xFG F) z) (Or.inl rfl) (ci := 6) (C := RJ19) (T := TJ19) rfl q841 q1713 q840 q3998 (xroom hRm (Nat.le_of_ble_eq_true rfl) (Nat.le_of_ble_eq_true rfl)) ⟨by decide, by decide⟩ n_J19_size rfl (xcat (Nat.le_of_ble_eq_true rfl)) (fun v68 => ?_)
          exact xr_iret F dX1_count_71
        · refine xr_tableOut 72 F dX1_count_1 (by intro i g1 g2; have g3 : i = 0 ∨ i = 1 ∨ i = 2 ∨ i = 3 := (by omega); rcases g3 with rfl | rfl | rfl | rfl; all_goals assumption) rfl ?_
          refine xr_mk (names := xnms) F dX1_count_72 dX1_count_75 dX1_count_76 rfl (by decide +kernel) (by decide +kernel) q2476 q154 xat_21 xag_21 (xao_21 19 q2476) (xroom hRm (Nat.le_of_ble_eq_true rfl) (Nat.le_of_ble_eq_true rfl)) (xcat (Nat.le_of_ble_eq_true rfl)) (fun v72 => ?_)
          exact xr_throw (r := (some v72)) F dX1_count_79 (hno _)
theorem fX0_count_m {l : Launch} {D : xD} {s0 : State} {b0 : Nat} {Γ : Nat → Option Nat} (G : xG l D s0 b0 Γ) (p0 : Option Nat) (p1 : Int32) (p2 : Option Nat) : xMeth l D s0 Γ yX0_count (Cond.codeWith yX0_count cX0_count 4 (some .int) [(0, 9, 12, 19)]) (7) (110) [va_rf p0, .int p1, va_rf p2] xeI (fX0_count p0 p1 p2) := by
  refine xMeth.of (lv0 := [(0, va_rf p0), (1, .int p1), (2, va_rf p2)]) G (by decide +kernel) (Or.inr ⟨_, rfl⟩) (by simp [lg_sl, xrf_cat, xct_i, xct_l, xct_d, xct_r]) (by simp [lv_args, xrf_cat, xct_i, xct_l, xct_d, xct_r, xrf_some]) (fun x F hnL hRm hmn ht e1 e2 e3 e4 => ?_)
  have htb : x.2.2.2.2.2.2.2.2.2.1.exceptionTable.toList = tableOf [(0, 9, 12, 19)] := ht.2 _ rfl
  unfold fX0_count
  refine xr_aload_n 2 (r := p2) F dX0_count_0 rfl ?_
  refine xr_iconst (0 : Int32) F dX0_count_1 rfl ?_
  refine xr_aload_n 0 (r := p0) F dX0_count_2 rfl ?_
  refine xr_iload_n 1 F dX0_count_3 rfl ?_
  refine xr_VIT (y := yX1_count) (As := [.int p1]) (r := p0) F dX0_count_4 (fun z => fX1_count_m (xFG F) z p1) (Or.inl rfl) (ci := 0) (C := RX1) (T := TX1) rfl q2475 q2472 q2473 q2474 (xroom hRm (Nat.le_of_ble_eq_true rfl) (Nat.le_of_ble_eq_true rfl)) ⟨by decide, by decide⟩ n_X1_count rfl (xcat (Nat.le_of_ble_eq_true rfl)) (fun v4 => ?_) (fun q => ?_)
  · refine xr_i2l F dX0_count_7 ?_
    refine xr_last (r := p2) F dX0_count_8 ?_
    refine xr_goto 15 F dX0_count_9 rfl ?_
    refine xr_iconst (0 : Int32) F dX0_count_15 rfl ?_
    exact xr_iret F dX0_count_16
  · refine xT.catch F htb (tableOf []) ⟨0, 9, 12, 19⟩ (tableOf []) rfl rfl xps0 rfl (Or.inr ⟨by decide, _, q2471, q924⟩) ?_
    refine xs_a_n [] F dX0_count_12 hnL rfl rfl xk0 ?_
    refine xr_iconst (1 : Int32) F dX0_count_13 rfl ?_
    exact xr_iret F dX0_count_14
theorem fX1_checkIndex_m {l : Launch} {D : xD} {s0 : State} {b0 : Nat} {Γ : Nat → Option Nat} (G : xG l D s0 b0 Γ) (p0 : Int32) (p1 : Int32) : xMeth l D s0 Γ yX1_checkIndex (Cond.code yX1_checkIndex cX1_checkIndex 2 none) (6) (89) [.int p0, .int p1] xeV (fX1_checkIndex p0 p1) := by
  refine xMeth.of (lv0 := [(0, .int p0), (1, .int p1)]) G (by decide +kernel) (Or.inl rfl) (Nat.le_of_ble_eq_true rfl) rfl (fun x F hnL hRm hmn ht e1 e2 e3 e4 => ?_)
  have hno : ∀ pc, xNo x pc := fun pc z hz => by rw [ht.1 rfl] at hz; cases hz
  unfold fX1_checkIndex
  refine xr_iload_n 0 F dX1_checkIndex_0 rfl ?_
  refine xr_iconst (0 : Int32) F dX1_checkIndex_1 rfl ?_
  refine xr_iload_n 1 F dX1_checkIndex_2 rfl ?_
  refine xr_iconst (1 : Int32) F dX1_checkIndex_3 rfl ?_
  refine xr_isub F dX1_checkIndex_4 ?_
  refine xr_SI (y := yX1_inRange) (As := [.int p0, .int (0 : Int32), .int (p1 - (1 : Int32))]) F (hno _) dX1_checkIndex_5 (fX1_inRange_m (xFG F) p0 (0 : Int32) (p1 - (1 : Int32))) (Or.inl rfl) q646 q121 (Or.inl q644) q645 (xroom hRm (Nat.le_of_ble_eq_true rfl) (Nat.le_of_ble_eq_true rfl)) ⟨by decide, by decide⟩ n_X1_inRange rfl (xcat (Nat.le_of_ble_eq_true rfl)) (fun v5 => ?_)
  refine xr_if_ne 19 F dX1_checkIndex_8 rfl ?_ ?_
  · refine xr_mk (names := xnms) F dX1_checkIndex_11 dX1_checkIndex_14 dX1_checkIndex_15 rfl (by decide +kernel) (by decide +kernel) q2508 q148 xat_9 xag_9 (xao_9 7 q2508) (xroom hRm (Nat.le_of_ble_eq_true rfl) (Nat.le_of_ble_eq_true rfl)) (xcat (Nat.le_of_ble_eq_true rfl)) (fun v11 => ?_)
    exact xr_throw (r := (some v11)) F dX1_checkIndex_18 (hno _)
  · exact xr_vret F dX1_checkIndex_19
theorem fX1_herd_m {l : Launch} {D : xD} {s0 : State} {b0 : Nat} {Γ : Nat → Option Nat} (G : xG l D s0 b0 Γ) (a0 : Nat) (p0 : Int32) : xMeth l D s0 Γ yX1_herd (Cond.code yX1_herd cX1_herd 2 (some (.object "ReserveLedger$Herd"))) (7) (110) [.ref a0, .int p0] xeR (fX1_herd a0 p0) := by
  refine xMeth.of (lv0 := [(0, va_rf (some a0)), (1, .int p0)]) G (by decide +kernel) (Or.inl rfl) (Nat.le_of_ble_eq_true rfl) rfl (fun x F hnL hRm hmn ht e1 e2 e3 e4 => ?_)
  have hno : ∀ pc, xNo x pc := fun pc z hz => by rw [ht.1 rfl] at hz; cases hz
  unfold fX1_herd
  refine xr_iload_n 1 F dX1_herd_0 rfl ?_
  refine xr_aload_n 0 (r := (some a0)) F dX1_herd_1 rfl ?_
  refine xr_gR (r := (some a0)) (ref := "ReserveLedger") F dX1_herd_2 (C := RX1) (T := TX1) (N := 7) rfl (by decide) (Or.inl q614) (Or.inl rfl) (fun v2 => ?_)
  refine xr_gR (r := v2) (ref := "ReserveLedger$State") F dX1_herd_5 (C := RX2) (T := TX2) (N := 5) rfl (by decide) (Or.inr ⟨_, q584⟩) (Or.inl rfl) (fun v5 => ?_)
  refine xr_FI (x0 := ⟨"java/util/List", "size", "()I"⟩) (y := yJ2_size) (As := []) (r := v5) F (hno _) dX1_herd_8 (fun z => fJ2_size_m (xFG F) z) rfl (ci := 2) (C := RJ2) (T := TJ2) rfl q838 q2467 q837 q1848 q1847 q1846 q1850 q1849 q688 (xroom hRm (Nat.le_of_ble_eq_true rfl) (Nat.le_of_ble_eq_true rfl)) ⟨by decide, by decide⟩ n_J2_size rfl (xcat (Nat.le_of_ble_eq_true rfl)) (fun v8 => ?_)
  refine xr_SV (y := yX1_checkIndex) (As := [.int p0, .int v8]) F (hno _) dX1_herd_13 (fX1_checkIndex_m (xFG F) p0 v8) (Or.inl rfl) q2507 q121 (Or.inl q2505) q2506 (xroom hRm (Nat.le_of_ble_eq_true rfl) (Nat.le_of_ble_eq_true rfl)) ⟨by decide, by decide⟩ n_X1_checkIndex rfl (xcat (Nat.le_of_ble_eq_true rfl)) (fun _ => ?_)
  refine xr_aload_n 0 (r := (some a0)) F dX1_herd_16 rfl ?_
  refine xr_gR (r := (some a0)) (ref := "ReserveLedger") F dX1_herd_17 (C := RX1) (T := TX1) (N := 7) rfl (by decide) (Or.inl q614) (Or.inl rfl) (fun v17 => ?_)
  refine xr_gR (r := v17) (ref := "ReserveLedger$State") F dX1_herd_20 (C := RX2) (T := TX2) (N := 5) rfl (by decide) (Or.inr ⟨_, q584⟩) (Or.inl rfl) (fun v20 => ?_)
  refine xr_iload_n 1 F dX1_herd_23 rfl ?_
  refine xr_FR (x0 := ⟨"java/util/List", "get", "(I)Ljava/lang/Object;"⟩) (y := yJ2_get) (As := [.int p0]) (r := v20) F (hno _) dX1_herd_24 (fun z => fJ2_get_m (xFG F) z p0) rfl (ci := 2) (C := RJ2) (T := TJ2) rfl q901 q2514 q900 q2153 q2152 q2151 q2155 q2154 q688 (xroom hRm (Nat.le_of_ble_eq_true rfl) (Nat.le_of_ble_eq_true rfl)) ⟨by decide, by decide⟩ n_J2_get rfl (xcat (Nat.le_of_ble_eq_true rfl)) (fun v24 => ?_)
  refine xr_castE (ci := 19) (r := v24) F dX1_herd_29 q1145 rfl ?_
  exact xr_aret (v := v24) F dX1_herd_32 (Or.inl ⟨_, rfl⟩)
theorem fX6_left_m {l : Launch} {D : xD} {s0 : State} {b0 : Nat} {Γ : Nat → Option Nat} (G : xG l D s0 b0 Γ) (a0 : Nat) : xMeth l D s0 Γ yX6_left (Cond.code yX6_left cX6_left 1 (some .int)) (2) (33) [.ref a0] xeI (fX6_left a0) := by
  refine xMeth.of (lv0 := [(0, va_rf (some a0))]) G (by decide +kernel) (Or.inl rfl) (Nat.le_of_ble_eq_true rfl) rfl (fun x F hnL hRm hmn ht e1 e2 e3 e4 => ?_)
  have hno : ∀ pc, xNo x pc := fun pc z hz => by rw [ht.1 rfl] at hz; cases hz
  unfold fX6_left
  refine xr_iconst (0 : Int32) F dX6_left_0 rfl ?_
  refine xr_aload_n 0 (r := (some a0)) F dX6_left_1 rfl ?_
  refine xr_gR (r := (some a0)) (ref := "ReserveLedger$Herd") F dX6_left_2 (C := RX6) (T := TX6) (N := 8) rfl (by decide) (Or.inl q2052) (Or.inl rfl) (fun v2 => ?_)
  refine xr_gI (r := v2) (ref := "ReserveLedger$Ledger") F dX6_left_5 (C := RX9) (T := TX9) (N := 7) rfl (by decide) (Or.inr ⟨_, q1976⟩) (Or.inl rfl) (fun v5 => ?_)
  refine xr_aload_n 0 (r := (some a0)) F dX6_left_8 rfl ?_
  refine xr_gR (r := (some a0)) (ref := "ReserveLedger$Herd") F dX6_left_9 (C := RX6) (T := TX6) (N := 8) rfl (by decide) (Or.inl q2052) (Or.inl rfl) (fun v9 => ?_)
  refine xr_gI (r := v9) (ref := "ReserveLedger$Ledger") F dX6_left_12 (C := RX9) (T := TX9) (N := 7) rfl (by decide) (Or.inr ⟨_, q1967⟩) (Or.inl rfl) (fun v12 => ?_)
  refine xr_isub F dX6_left_15 ?_
  refine xr_SI (y := yJ12_max) (As := [.int (0 : Int32), .int (v5 - v12)]) F (hno _) dX6_left_16 (fJ12_max_m (xFG F) (0 : Int32) (v5 - v12)) (Or.inl rfl) q327 q135 (Or.inl q2521) q326 (xroom hRm (Nat.le_of_ble_eq_true rfl) (Nat.le_of_ble_eq_true rfl)) ⟨by decide, by decide⟩ n_J12_max rfl (xcat (Nat.le_of_ble_eq_true rfl)) (fun v16 => ?_)
  exact xr_iret F dX6_left_19
theorem fJ27_sub_m {l : Launch} {D : xD} {s0 : State} {b0 : Nat} {Γ : Nat → Option Nat} (G : xG l D s0 b0 Γ) (p0 : Int32) (p1 : Int32) (p2 : Int32) : xMeth l D s0 Γ yJ27_sub (Cond.code yJ27_sub cJ27_sub 3 (some .int)) (1) (12) [.int p0, .int p1, .int p2] xeI (fJ27_sub p0 p1 p2) := by
  refine xMeth.of (lv0 := [(0, .int p0), (1, .int p1), (2, .int p2)]) G (by decide +kernel) (Or.inl rfl) (Nat.le_of_ble_eq_true rfl) rfl (fun x F hnL hRm hmn ht e1 e2 e3 e4 => ?_)
  have hno : ∀ pc, xNo x pc := fun pc z hz => by rw [ht.1 rfl] at hz; cases hz
  unfold fJ27_sub
  refine xr_iload_n 0 F dJ27_sub_0 rfl ?_
  refine xr_iload_n 1 F dJ27_sub_1 rfl ?_
  refine xr_isub F dJ27_sub_2 ?_
  refine xr_letI (fun x_3 => ?_)
  refine xr_dup F dJ27_sub_3 rfl ?_
  refine xs_i_n [2] F dJ27_sub_4 hnL rfl rfl (xk1 rfl rfl xk0) ?_
  refine xr_if_ge 12 F dJ27_sub_5 rfl ?_ ?_
  · refine xr_iload_n 0 F dJ27_sub_12 rfl ?_
    exact xr_iret F dJ27_sub_13
  · refine xr_iload_n 0 F dJ27_sub_8 rfl ?_
    refine xr_iload_n 1 F dJ27_sub_9 rfl ?_
    refine xr_iadd F dJ27_sub_10 ?_
    refine xr_letI (fun x0_11 => ?_)
    refine xs_i_n [] F dJ27_sub_11 hnL rfl rfl xk0 ?_
    refine xr_iload_n 0 F dJ27_sub_12 rfl ?_
    exact xr_iret F dJ27_sub_13
theorem fJ27_size_m {l : Launch} {D : xD} {s0 : State} {b0 : Nat} {Γ : Nat → Option Nat} (G : xG l D s0 b0 Γ) (a0 : Nat) : xMeth l D s0 Γ yJ27_size (Cond.code yJ27_size cJ27_size 1 (some .int)) (2) (34) [.ref a0] xeI (fJ27_size a0) := by
  refine xMeth.of (lv0 := [(0, va_rf (some a0))]) G (by decide +kernel) (Or.inl rfl) (Nat.le_of_ble_eq_true rfl) rfl (fun x F hnL hRm hmn ht e1 e2 e3 e4 => ?_)
  have hno : ∀ pc, xNo x pc := fun pc z hz => by rw [ht.1 rfl] at hz; cases hz
  unfold fJ27_size
  refine xr_aload_n 0 (r := (some a0)) F dJ27_size_0 rfl ?_
  refine xr_gI (r := (some a0)) (ref := "java/util/ArrayDeque") F dJ27_size_1 (C := RJ27) (T := TJ27) (N := 3) rfl (by decide) (Or.inl q2004) (Or.inl rfl) (fun v1 => ?_)
  refine xr_aload_n 0 (r := (some a0)) F dJ27_size_4 rfl ?_
  refine xr_gI (r := (some a0)) (ref := "java/util/ArrayDeque") F dJ27_size_5 (C := RJ27) (T := TJ27) (N := 3) rfl (by decide) (Or.inl q2003) (Or.inl rfl) (fun v5 => ?_)
  refine xr_aload_n 0 (r := (some a0)) F dJ27_size_8 rfl ?_
  refine xr_gR (r := (some a0)) (ref := "java/util/ArrayDeque") F dJ27_size_9 (C := RJ27) (T := TJ27) (N := 3) rfl (by decide) (Or.inl q2000) (Or.inl rfl) (fun v9 => ?_)
  refine xr_len (r := v9) F dJ27_size_12 (fun v12 => ?_)
  refine xr_SI (y := yJ27_sub) (As := [.int v1, .int v5, .int v12]) F (hno _) dJ27_size_13 (fJ27_sub_m (xFG F) v1 v5 v12) (Or.inl rfl) q1194 q155 (Or.inl q1192) q1193 (xroom hRm (Nat.le_of_ble_eq_true rfl) (Nat.le_of_ble_eq_true rfl)) ⟨by decide, by decide⟩ n_J27_sub rfl (xcat (Nat.le_of_ble_eq_true rfl)) (fun v13 => ?_)
  exact xr_iret F dJ27_size_16
theorem fX1_field_m {l : Launch} {D : xD} {s0 : State} {b0 : Nat} {Γ : Nat → Option Nat} (G : xG l D s0 b0 Γ) (a0 : Nat) (p0 : Int32) (p1 : Int32) : xMeth l D s0 Γ yX1_field (Cond.code yX1_field cX1_field 4 (some .int)) (8) (131) [.ref a0, .int p0, .int p1] xeI (fX1_field a0 p0 p1) := by
  refine xMeth.of (lv0 := [(0, va_rf (some a0)), (1, .int p0), (2, .int p1)]) G (by decide +kernel) (Or.inl rfl) (Nat.le_of_ble_eq_true rfl) rfl (fun x F hnL hRm hmn ht e1 e2 e3 e4 => ?_)
  have hno : ∀ pc, xNo x pc := fun pc z hz => by rw [ht.1 rfl] at hz; cases hz
  unfold fX1_field
  refine xr_aload_n 0 (r := (some a0)) F dX1_field_0 rfl ?_
  refine xr_iload_n 1 F dX1_field_1 rfl ?_
  refine xr_VR (y := yX1_herd) (As := [.int p0]) (r := (some a0)) F (hno _) dX1_field_2 (fun z => fX1_herd_m (xFG F) z p0) (Or.inl rfl) (ci := 0) (C := RX1) (T := TX1) rfl q2504 q2501 q2503 qs34 (xroom hRm (Nat.le_of_ble_eq_true rfl) (Nat.le_of_ble_eq_true rfl)) ⟨by decide, by decide⟩ n_X1_herd rfl (xcat (Nat.le_of_ble_eq_true rfl)) (fun v2 => ?_)
  refine xs_a_n [2] F dX1_field_5 hnL rfl rfl (xk2 rfl rfl xk0) ?_
  refine xr_iload_n 1 F dX1_field_6 rfl ?_
  refine xI.split (fun h_0 => ?_) (fun h_0 => ?_)
  · refine xr_tableIn 60 F dX1_field_7 (by rw [h_0]; decide) (by rw [h_0]; decide) (by rw [h_0]; rfl) rfl ?_
    refine xr_aload_n 0 (r := v2) F dX1_field_60 rfl ?_
    refine xr_gR (r := v2) (ref := "ReserveLedger$Herd") F dX1_field_61 (C := RX6) (T := TX6) (N := 8) rfl (by decide) (Or.inr ⟨_, q2037⟩) (Or.inl rfl) (fun v61 => ?_)
    refine xr_gI (r := v61) (ref := "ReserveLedger$Species") F dX1_field_64 (C := RX7) (T := TX7) (N := 6) rfl (by decide) (Or.inr ⟨_, q1920⟩) (Or.inl rfl) (fun v64 => ?_)
    exact xr_iret F dX1_field_67
  · refine xI.split (fun h_1 => ?_) (fun h_1 => ?_)
    · refine xr_tableIn 68 F dX1_field_7 (by rw [h_1]; decide) (by rw [h_1]; decide) (by rw [h_1]; rfl) rfl ?_
      refine xr_aload_n 0 (r := v2) F dX1_field_68 rfl ?_
      refine xr_gR (r := v2) (ref := "ReserveLedger$Herd") F dX1_field_69 (C := RX6) (T := TX6) (N := 8) rfl (by decide) (Or.inr ⟨_, q2037⟩) (Or.inl rfl) (fun v69 => ?_)
      refine xr_gI (r := v69) (ref := "ReserveLedger$Species") F dX1_field_72 (C := RX7) (T := TX7) (N := 6) rfl (by decide) (Or.inr ⟨_, q1928⟩) (Or.inl rfl) (fun v72 => ?_)
      exact xr_iret F dX1_field_75
    · refine xI.split (fun h_2 => ?_) (fun h_2 => ?_)
      · refine xr_tableIn 76 F dX1_field_7 (by rw [h_2]; decide) (by rw [h_2]; decide) (by rw [h_2]; rfl) rfl ?_
        refine xr_aload_n 0 (r := v2) F dX1_field_76 rfl ?_
        refine xr_gI (r := v2) (ref := "ReserveLedger$Herd") F dX1_field_77 (C := RX6) (T := TX6) (N := 8) rfl (by decide) (Or.inr ⟨_, q2046⟩) (Or.inl rfl) (fun v77 => ?_)
        exact xr_iret F dX1_field_80
      · refine xI.split (fun h_3 => ?_) (fun h_3 => ?_)
        · refine xr_tableIn 81 F dX1_field_7 (by rw [h_3]; decide) (by rw [h_3]; decide) (by rw [h_3]; rfl) rfl ?_
          refine xr_aload_n 0 (r := v2) F dX1_field_81 rfl ?_
          refine xr_gR (r := v2) (ref := "ReserveLedger$Herd") F dX1_field_82 (C := RX6) (T := TX6) (N := 8) rfl (by decide) (Or.inr ⟨_, q2043⟩) (Or.inl rfl) (fun v82 => ?_)
          refine xr_VI (y := yX10_total) (As := []) (r := v82) F (hno _) dX1_field_85 (fun z => fX10_total_m (xFG F) z) (Or.inl rfl) (ci := 24) (C := RX10) (T := TX10) rfl q1642 q2515 q1640 q1641 (xroom hRm (Nat.le_of_ble_eq_true rfl) (Nat.le_of_ble_eq_true rfl)) ⟨by decide, by decide⟩ n_X10_total rfl (xcat (Nat.le_of_ble_eq_true rfl)) (fun v85 => ?_)
          exact xr_iret F dX1_field_88
        · refine xI.split (fun h_4 => ?_) (fun h_4 => ?_)
          · refine xr_tableIn 89 F dX1_field_7 (by rw [h_4]; decide) (by rw [h_4]; decide) (by rw [h_4]; rfl) rfl ?_
            refine xr_aload_n 0 (r := v2) F dX1_field_89 rfl ?_
            refine xr_gR (r := v2) (ref := "ReserveLedger$Herd") F dX1_field_90 (C := RX6) (T := TX6) (N := 8) rfl (by decide) (Or.inr ⟨_, q2043⟩) (Or.inl rfl) (fun v90 => ?_)
            refine xr_VI (y := yX10_adults) (As := []) (r := v90) F (hno _) dX1_field_93 (fun z => fX10_adults_m (xFG F) z) (Or.inl rfl) (ci := 24) (C := RX10) (T := TX10) rfl q2319 q2516 q2317 q2318 (xroom hRm (Nat.le_of_ble_eq_true rfl) (Nat.le_of_ble_eq_true rfl)) ⟨by decide, by decide⟩ n_X10_adults rfl (xcat (Nat.le_of_ble_eq_true rfl)) (fun v93 => ?_)
            exact xr_iret F dX1_field_96
          · refine xI.split (fun h_5 => ?_) (fun h_5 => ?_)
            · refine xr_tableIn 97 F dX1_field_7 (by rw [h_5]; decide) (by rw [h_5]; decide) (by rw [h_5]; rfl) rfl ?_
              refine xr_aload_n 0 (r := v2) F dX1_field_97 rfl ?_
              refine xr_gI (r := v2) (ref := "ReserveLedger$Herd") F dX1_field_98 (C := RX6) (T := TX6) (N := 8) rfl (by decide) (Or.inr ⟨_, q2049⟩) (Or.inl rfl) (fun v98 => ?_)
              exact xr_iret F dX1_field_101
            · refine xI.split (fun h_6 => ?_) (fun h_6 => ?_)
              · refine xr_tableIn 102 F dX1_field_7 (by rw [h_6]; decide) (by rw [h_6]; decide) (by rw [h_6]; rfl) rfl ?_
                refine xr_aload_n 0 (r := v2) F dX1_field_102 rfl ?_
                refine xr_gR (r := v2) (ref := "ReserveLedger$Herd") F dX1_field_103 (C := RX6) (T := TX6) (N := 8) rfl (by decide) (Or.inr ⟨_, q2053⟩) (Or.inl rfl) (fun v103 => ?_)
                refine xr_gI (r := v103) (ref := "ReserveLedger$Ledger") F dX1_field_106 (C := RX9) (T := TX9) (N := 7) rfl (by decide) (Or.inr ⟨_, q1977⟩) (Or.inl rfl) (fun v106 => ?_)
                exact xr_iret F dX1_field_109
              · refine xI.split (fun h_7 => ?_) (fun h_7 => ?_)
                · refine xr_tableIn 110 F dX1_field_7 (by rw [h_7]; decide) (by rw [h_7]; decide) (by rw [h_7]; rfl) rfl ?_
                  refine xr_aload_n 0 (r := v2) F dX1_field_110 rfl ?_
                  refine xr_VI (y := yX6_left) (As := []) (r := v2) F (hno _) dX1_field_111 (fun z => fX6_left_m (xFG F) z) (Or.inl rfl) (ci := 19) (C := RX6) (T := TX6) rfl q2520 q2517 q2518 q2519 (xroom hRm (Nat.le_of_ble_eq_true rfl) (Nat.le_of_ble_eq_true rfl)) ⟨by decide, by decide⟩ n_X6_left rfl (xcat (Nat.le_of_ble_eq_true rfl)) (fun v111 => ?_)
                  exact xr_iret F dX1_field_114
                · refine xI.split (fun h_8 => ?_) (fun h_8 => ?_)
                  · refine xr_tableIn 115 F dX1_field_7 (by rw [h_8]; decide) (by rw [h_8]; decide) (by rw [h_8]; rfl) rfl ?_
                    refine xr_aload_n 0 (r := v2) F dX1_field_115 rfl ?_
                    refine xr_gI (r := v2) (ref := "ReserveLedger$Herd") F dX1_field_116 (C := RX6) (T := TX6) (N := 8) rfl (by decide) (Or.inr ⟨_, q2051⟩) (Or.inl rfl) (fun v116 => ?_)
                    refine xr_if_eq 126 F dX1_field_119 rfl ?_ ?_
                    · refine xr_iconst (0 : Int32) F dX1_field_126 rfl ?_
                      exact xr_iret F dX1_field_127
                    · refine xr_iconst (1 : Int32) F dX1_field_122 rfl ?_
                      refine xr_goto 127 F dX1_field_123 rfl ?_
                      exact xr_iret F dX1_field_127
                  · refine xI.split (fun h_9 => ?_) (fun h_9 => ?_)
                    · refine xr_tableIn 128 F dX1_field_7 (by rw [h_9]; decide) (by rw [h_9]; decide) (by rw [h_9]; rfl) rfl ?_
                      refine xr_aload_n 0 (r := v2) F dX1_field_128 rfl ?_
                      refine xr_gR (r := v2) (ref := "ReserveLedger$Herd") F dX1_field_129 (C := RX6) (T := TX6) (N := 8) rfl (by decide) (Or.inr ⟨_, q2055⟩) (Or.inl rfl) (fun v129 => ?_)
                      refine xr_VI (y := yJ27_size) (As := []) (r := v129) F (hno _) dX1_field_132 (fun z => fJ27_size_m (xFG F) z) (Or.inl rfl) (ci := 23) (C := RJ27) (T := TJ27) rfl q1191 q2522 q1189 q1190 (xroom hRm (Nat.le_of_ble_eq_true rfl) (Nat.le_of_ble_eq_true rfl)) ⟨by decide, by decide⟩ n_J27_size rfl (xcat (Nat.le_of_ble_eq_true rfl)) (fun v132 => ?_)
                      exact xr_iret F dX1_field_135
                    · refine xr_tableOut 136 F dX1_field_7 (by intro i g1 g2; have g3 : i = 0 ∨ i = 1 ∨ i = 2 ∨ i = 3 ∨ i = 4 ∨ i = 5 ∨ i = 6 ∨ i = 7 ∨ i = 8 ∨ i = 9 := (by omega); rcases g3 with rfl | rfl | rfl | rfl | rfl | rfl | rfl | rfl | rfl | rfl; all_goals assumption) rfl ?_
                      refine xr_mk (names := xnms) F dX1_field_136 dX1_field_139 dX1_field_140 rfl (by decide +kernel) (by decide +kernel) q2476 q154 xat_21 xag_21 (xao_21 19 q2476) (xroom hRm (Nat.le_of_ble_eq_true rfl) (Nat.le_of_ble_eq_true rfl)) (xcat (Nat.le_of_ble_eq_true rfl)) (fun v136 => ?_)
                      exact xr_throw (r := (some v136)) F dX1_field_143 (hno _)
theorem fX0_field_m {l : Launch} {D : xD} {s0 : State} {b0 : Nat} {Γ : Nat → Option Nat} (G : xG l D s0 b0 Γ) (p0 : Option Nat) (p1 : Int32) (p2 : Int32) (p3 : Option Nat) : xMeth l D s0 Γ yX0_field (Cond.codeWith yX0_field cX0_field 5 (some .int) [(0, 10, 13, 25), (0, 10, 17, 19)]) (9) (154) [va_rf p0, .int p1, .int p2, va_rf p3] xeI (fX0_field p0 p1 p2 p3) := by
  refine xMeth.of (lv0 := [(0, va_rf p0), (1, .int p1), (2, .int p2), (3, va_rf p3)]) G (by decide +kernel) (Or.inr ⟨_, rfl⟩) (by simp [lg_sl, xrf_cat, xct_i, xct_l, xct_d, xct_r]) (by simp [lv_args, xrf_cat, xct_i, xct_l, xct_d, xct_r, xrf_some]) (fun x F hnL hRm hmn ht e1 e2 e3 e4 => ?_)
  have htb : x.2.2.2.2.2.2.2.2.2.1.exceptionTable.toList = tableOf [(0, 10, 13, 25), (0, 10, 17, 19)] := ht.2 _ rfl
  unfold fX0_field
  refine xr_aload_n 3 (r := p3) F dX0_field_0 rfl ?_
  refine xr_iconst (0 : Int32) F dX0_field_1 rfl ?_
  refine xr_aload_n 0 (r := p0) F dX0_field_2 rfl ?_
  refine xr_iload_n 1 F dX0_field_3 rfl ?_
  refine xr_iload_n 2 F dX0_field_4 rfl ?_
  refine xr_VIT (y := yX1_field) (As := [.int p1, .int p2]) (r := p0) F dX0_field_5 (fun z => fX1_field_m (xFG F) z p1 p2) (Or.inl rfl) (ci := 0) (C := RX1) (T := TX1) rfl q2500 q2497 q2498 q2499 (xroom hRm (Nat.le_of_ble_eq_true rfl) (Nat.le_of_ble_eq_true rfl)) ⟨by decide, by decide⟩ n_X1_field rfl (xcat (Nat.le_of_ble_eq_true rfl)) (fun v5 => ?_) (fun q => ?_)
  · refine xr_i2l F dX0_field_8 ?_
    refine xr_last (r := p3) F dX0_field_9 ?_
    refine xr_goto 21 F dX0_field_10 rfl ?_
    refine xr_iconst (0 : Int32) F dX0_field_21 rfl ?_
    exact xr_iret F dX0_field_22
  · refine xT.sel2 ?_ ?_
    · refine xT.catch F htb (tableOf []) ⟨0, 10, 13, 25⟩ (tableOf [(0, 10, 17, 19)]) rfl rfl xps0 rfl (Or.inr ⟨by decide, _, q2481, q739⟩) ?_
      refine xs_a [] F dX0_field_13 hnL rfl rfl xk0 ?_
      refine xr_iconst (1 : Int32) F dX0_field_15 rfl ?_
      exact xr_iret F dX0_field_16
    refine xT.catch F htb (tableOf [(0, 10, 13, 25)]) ⟨0, 10, 17, 19⟩ (tableOf []) rfl rfl (xps1 (Or.inr ⟨by decide, _, 0, q2481, rfl⟩) xps0) rfl (Or.inr ⟨by decide, _, q2471, q924⟩) ?_
    refine xs_a [] F dX0_field_17 hnL rfl rfl xk0 ?_
    refine xr_iconst (2 : Int32) F dX0_field_19 rfl ?_
    exact xr_iret F dX0_field_20
theorem fX1_herdWith_m {l : Launch} {D : xD} {s0 : State} {b0 : Nat} {Γ : Nat → Option Nat} (G : xG l D s0 b0 Γ) (a0 : Nat) (p0 : Int32) (p1 : Int32) : xMeth l D s0 Γ yX1_herdWith (Cond.code yX1_herdWith cX1_herdWith 4 (some (.object "ReserveLedger$Herd"))) (8) (131) [.ref a0, .int p0, .int p1] xeR (fX1_herdWith a0 p0 p1) := by
  refine xMeth.of (lv0 := [(0, va_rf (some a0)), (1, .int p0), (2, .int p1)]) G (by decide +kernel) (Or.inl rfl) (Nat.le_of_ble_eq_true rfl) rfl (fun x F hnL hRm hmn ht e1 e2 e3 e4 => ?_)
  have hno : ∀ pc, xNo x pc := fun pc z hz => by rw [ht.1 rfl] at hz; cases hz
  unfold fX1_herdWith
  refine xr_aload_n 0 (r := (some a0)) F dX1_herdWith_0 rfl ?_
  refine xr_iload_n 1 F dX1_herdWith_1 rfl ?_
  refine xr_VR (y := yX1_herd) (As := [.int p0]) (r := (some a0)) F (hno _) dX1_herdWith_2 (fun z => fX1_herd_m (xFG F) z p0) (Or.inl rfl) (ci := 0) (C := RX1) (T := TX1) rfl q2504 q2501 q2503 qs34 (xroom hRm (Nat.le_of_ble_eq_true rfl) (Nat.le_of_ble_eq_true rfl)) ⟨by decide, by decide⟩ n_X1_herd rfl (xcat (Nat.le_of_ble_eq_true rfl)) (fun v2 => ?_)
  refine xs_a_n [2] F dX1_herdWith_5 hnL rfl rfl (xk2 rfl rfl xk0) ?_
  refine xr_iload_n 1 F dX1_herdWith_6 rfl ?_
  refine xr_aload_n 0 (r := v2) F dX1_herdWith_7 rfl ?_
  refine xr_gR (r := v2) (ref := "ReserveLedger$Herd") F dX1_herdWith_8 (C := RX6) (T := TX6) (N := 8) rfl (by decide) (Or.inr ⟨_, q2037⟩) (Or.inl rfl) (fun v8 => ?_)
  refine xr_gI (r := v8) (ref := "ReserveLedger$Species") F dX1_herdWith_11 (C := RX7) (T := TX7) (N := 6) rfl (by decide) (Or.inr ⟨_, q1920⟩) (Or.inl rfl) (fun v11 => ?_)
  refine xr_iconst (1 : Int32) F dX1_herdWith_14 rfl ?_
  refine xr_iadd F dX1_herdWith_15 ?_
  refine xr_SV (y := yX1_checkIndex) (As := [.int p1, .int (v11 + (1 : Int32))]) F (hno _) dX1_herdWith_16 (fX1_checkIndex_m (xFG F) p1 (v11 + (1 : Int32))) (Or.inl rfl) q2507 q121 (Or.inl q2505) q2506 (xroom hRm (Nat.le_of_ble_eq_true rfl) (Nat.le_of_ble_eq_true rfl)) ⟨by decide, by decide⟩ n_X1_checkIndex rfl (xcat (Nat.le_of_ble_eq_true rfl)) (fun _ => ?_)
  refine xr_aload_n 0 (r := v2) F dX1_herdWith_19 rfl ?_
  exact xr_aret (v := v2) F dX1_herdWith_20 (Or.inl ⟨_, rfl⟩)
theorem fX1_survival_m {l : Launch} {D : xD} {s0 : State} {b0 : Nat} {Γ : Nat → Option Nat} (G : xG l D s0 b0 Γ) (a0 : Nat) (p0 : Int32) (p1 : Int32) : xMeth l D s0 Γ yX1_survival (Cond.code yX1_survival cX1_survival 3 (some .int)) (9) (154) [.ref a0, .int p0, .int p1] xeI (fX1_survival a0 p0 p1) := by
  refine xMeth.of (lv0 := [(0, va_rf (some a0)), (1, .int p0), (2, .int p1)]) G (by decide +kernel) (Or.inl rfl) (Nat.le_of_ble_eq_true rfl) rfl (fun x F hnL hRm hmn ht e1 e2 e3 e4 => ?_)
  have hno : ∀ pc, xNo x pc := fun pc z hz => by rw [ht.1 rfl] at hz; cases hz
  unfold fX1_survival
  refine xr_aload_n 0 (r := (some a0)) F dX1_survival_0 rfl ?_
  refine xr_iload_n 1 F dX1_survival_1 rfl ?_
  refine xr_iload_n 2 F dX1_survival_2 rfl ?_
  refine xr_VR (y := yX1_herdWith) (As := [.int p0, .int p1]) (r := (some a0)) F (hno _) dX1_survival_3 (fun z => fX1_herdWith_m (xFG F) z p0 p1) (Or.inl rfl) (ci := 0) (C := RX1) (T := TX1) rfl q2533 q2530 q2532 qs35 (xroom hRm (Nat.le_of_ble_eq_true rfl) (Nat.le_of_ble_eq_true rfl)) ⟨by decide, by decide⟩ n_X1_herdWith rfl (xcat (Nat.le_of_ble_eq_true rfl)) (fun v3 => ?_)
  refine xr_gR (r := v3) (ref := "ReserveLedger$Herd") F dX1_survival_6 (C := RX6) (T := TX6) (N := 8) rfl (by decide) (Or.inr ⟨_, q2041⟩) (Or.inl rfl) (fun v6 => ?_)
  refine xr_iload_n 2 F dX1_survival_9 rfl ?_
  refine xr_iald (r := v6) F dX1_survival_10 (fun v10 => ?_)
  exact xr_iret F dX1_survival_11
theorem fX0_survival_m {l : Launch} {D : xD} {s0 : State} {b0 : Nat} {Γ : Nat → Option Nat} (G : xG l D s0 b0 Γ) (p0 : Option Nat) (p1 : Int32) (p2 : Int32) (p3 : Option Nat) : xMeth l D s0 Γ yX0_survival (Cond.codeWith yX0_survival cX0_survival 5 (some .int) [(0, 10, 13, 25)]) (10) (176) [va_rf p0, .int p1, .int p2, va_rf p3] xeI (fX0_survival p0 p1 p2 p3) := by
  refine xMeth.of (lv0 := [(0, va_rf p0), (1, .int p1), (2, .int p2), (3, va_rf p3)]) G (by decide +kernel) (Or.inr ⟨_, rfl⟩) (by simp [lg_sl, xrf_cat, xct_i, xct_l, xct_d, xct_r]) (by simp [lv_args, xrf_cat, xct_i, xct_l, xct_d, xct_r, xrf_some]) (fun x F hnL hRm hmn ht e1 e2 e3 e4 => ?_)
  have htb : x.2.2.2.2.2.2.2.2.2.1.exceptionTable.toList = tableOf [(0, 10, 13, 25)] := ht.2 _ rfl
  unfold fX0_survival
  refine xr_aload_n 3 (r := p3) F dX0_survival_0 rfl ?_
  refine xr_iconst (0 : Int32) F dX0_survival_1 rfl ?_
  refine xr_aload_n 0 (r := p0) F dX0_survival_2 rfl ?_
  refine xr_iload_n 1 F dX0_survival_3 rfl ?_
  refine xr_iload_n 2 F dX0_survival_4 rfl ?_
  refine xr_VIT (y := yX1_survival) (As := [.int p1, .int p2]) (r := p0) F dX0_survival_5 (fun z => fX1_survival_m (xFG F) z p1 p2) (Or.inl rfl) (ci := 0) (C := RX1) (T := TX1) rfl q2529 q2526 q2527 q2528 (xroom hRm (Nat.le_of_ble_eq_true rfl) (Nat.le_of_ble_eq_true rfl)) ⟨by decide, by decide⟩ n_X1_survival rfl (xcat (Nat.le_of_ble_eq_true rfl)) (fun v5 => ?_) (fun q => ?_)
  · refine xr_i2l F dX0_survival_8 ?_
    refine xr_last (r := p3) F dX0_survival_9 ?_
    refine xr_goto 17 F dX0_survival_10 rfl ?_
    refine xr_iconst (0 : Int32) F dX0_survival_17 rfl ?_
    exact xr_iret F dX0_survival_18
  · refine xT.catch F htb (tableOf []) ⟨0, 10, 13, 25⟩ (tableOf []) rfl rfl xps0 rfl (Or.inr ⟨by decide, _, q2481, q739⟩) ?_
    refine xs_a [] F dX0_survival_13 hnL rfl rfl xk0 ?_
    refine xr_iconst (1 : Int32) F dX0_survival_15 rfl ?_
    exact xr_iret F dX0_survival_16
theorem fX1_fecundity_m {l : Launch} {D : xD} {s0 : State} {b0 : Nat} {Γ : Nat → Option Nat} (G : xG l D s0 b0 Γ) (a0 : Nat) (p0 : Int32) (p1 : Int32) : xMeth l D s0 Γ yX1_fecundity (Cond.code yX1_fecundity cX1_fecundity 3 (some .int)) (9) (154) [.ref a0, .int p0, .int p1] xeI (fX1_fecundity a0 p0 p1) := by
  refine xMeth.of (lv0 := [(0, va_rf (some a0)), (1, .int p0), (2, .int p1)]) G (by decide +kernel) (Or.inl rfl) (Nat.le_of_ble_eq_true rfl) rfl (fun x F hnL hRm hmn ht e1 e2 e3 e4 => ?_)
  have hno : ∀ pc, xNo x pc := fun pc z hz => by rw [ht.1 rfl] at hz; cases hz
  unfold fX1_fecundity
  refine xr_aload_n 0 (r := (some a0)) F dX1_fecundity_0 rfl ?_
  refine xr_iload_n 1 F dX1_fecundity_1 rfl ?_
  refine xr_iload_n 2 F dX1_fecundity_2 rfl ?_
  refine xr_VR (y := yX1_herdWith) (As := [.int p0, .int p1]) (r := (some a0)) F (hno _) dX1_fecundity_3 (fun z => fX1_herdWith_m (xFG F) z p0 p1) (Or.inl rfl) (ci := 0) (C := RX1) (T := TX1) rfl q2533 q2530 q2532 qs35 (xroom hRm (Nat.le_of_ble_eq_true rfl) (Nat.le_of_ble_eq_true rfl)) ⟨by decide, by decide⟩ n_X1_herdWith rfl (xcat (Nat.le_of_ble_eq_true rfl)) (fun v3 => ?_)
  refine xr_gR (r := v3) (ref := "ReserveLedger$Herd") F dX1_fecundity_6 (C := RX6) (T := TX6) (N := 8) rfl (by decide) (Or.inr ⟨_, q2037⟩) (Or.inl rfl) (fun v6 => ?_)
  refine xr_gR (r := v6) (ref := "ReserveLedger$Species") F dX1_fecundity_9 (C := RX7) (T := TX7) (N := 6) rfl (by decide) (Or.inr ⟨_, q1925⟩) (Or.inl rfl) (fun v9 => ?_)
  refine xr_iload_n 2 F dX1_fecundity_12 rfl ?_
  refine xr_iald (r := v9) F dX1_fecundity_13 (fun v13 => ?_)
  exact xr_iret F dX1_fecundity_14
theorem fX0_fecundity_m {l : Launch} {D : xD} {s0 : State} {b0 : Nat} {Γ : Nat → Option Nat} (G : xG l D s0 b0 Γ) (p0 : Option Nat) (p1 : Int32) (p2 : Int32) (p3 : Option Nat) : xMeth l D s0 Γ yX0_fecundity (Cond.codeWith yX0_fecundity cX0_fecundity 5 (some .int) [(0, 10, 13, 25)]) (10) (176) [va_rf p0, .int p1, .int p2, va_rf p3] xeI (fX0_fecundity p0 p1 p2 p3) := by
  refine xMeth.of (lv0 := [(0, va_rf p0), (1, .int p1), (2, .int p2), (3, va_rf p3)]) G (by decide +kernel) (Or.inr ⟨_, rfl⟩) (by simp [lg_sl, xrf_cat, xct_i, xct_l, xct_d, xct_r]) (by simp [lv_args, xrf_cat, xct_i, xct_l, xct_d, xct_r, xrf_some]) (fun x F hnL hRm hmn ht e1 e2 e3 e4 => ?_)
  have htb : x.2.2.2.2.2.2.2.2.2.1.exceptionTable.toList = tableOf [(0, 10, 13, 25)] := ht.2 _ rfl
  unfold fX0_fecundity
  refine xr_aload_n 3 (r := p3) F dX0_fecundity_0 rfl ?_
  refine xr_iconst (0 : Int32) F dX0_fecundity_1 rfl ?_
  refine xr_aload_n 0 (r := p0) F dX0_fecundity_2 rfl ?_
  refine xr_iload_n 1 F dX0_fecundity_3 rfl ?_
  refine xr_iload_n 2 F dX0_fecundity_4 rfl ?_
  refine xr_VIT (y := yX1_fecundity) (As := [.int p1, .int p2]) (r := p0) F dX0_fecundity_5 (fun z => fX1_fecundity_m (xFG F) z p1 p2) (Or.inl rfl) (ci := 0) (C := RX1) (T := TX1) rfl q2540 q2537 q2538 q2539 (xroom hRm (Nat.le_of_ble_eq_true rfl) (Nat.le_of_ble_eq_true rfl)) ⟨by decide, by decide⟩ n_X1_fecundity rfl (xcat (Nat.le_of_ble_eq_true rfl)) (fun v5 => ?_) (fun q => ?_)
  · refine xr_i2l F dX0_fecundity_8 ?_
    refine xr_last (r := p3) F dX0_fecundity_9 ?_
    refine xr_goto 17 F dX0_fecundity_10 rfl ?_
    refine xr_iconst (0 : Int32) F dX0_fecundity_17 rfl ?_
    exact xr_iret F dX0_fecundity_18
  · refine xT.catch F htb (tableOf []) ⟨0, 10, 13, 25⟩ (tableOf []) rfl rfl xps0 rfl (Or.inr ⟨by decide, _, q2481, q739⟩) ?_
    refine xs_a [] F dX0_fecundity_13 hnL rfl rfl xk0 ?_
    refine xr_iconst (1 : Int32) F dX0_fecundity_15 rfl ?_
    exact xr_iret F dX0_fecundity_16
theorem fX1_cohort_m {l : Launch} {D : xD} {s0 : State} {b0 : Nat} {Γ : Nat → Option Nat} (G : xG l D s0 b0 Γ) (a0 : Nat) (p0 : Int32) (p1 : Int32) : xMeth l D s0 Γ yX1_cohort (Cond.code yX1_cohort cX1_cohort 3 (some .int)) (9) (154) [.ref a0, .int p0, .int p1] xeI (fX1_cohort a0 p0 p1) := by
  refine xMeth.of (lv0 := [(0, va_rf (some a0)), (1, .int p0), (2, .int p1)]) G (by decide +kernel) (Or.inl rfl) (Nat.le_of_ble_eq_true rfl) rfl (fun x F hnL hRm hmn ht e1 e2 e3 e4 => ?_)
  have hno : ∀ pc, xNo x pc := fun pc z hz => by rw [ht.1 rfl] at hz; cases hz
  unfold fX1_cohort
  refine xr_aload_n 0 (r := (some a0)) F dX1_cohort_0 rfl ?_
  refine xr_iload_n 1 F dX1_cohort_1 rfl ?_
  refine xr_iload_n 2 F dX1_cohort_2 rfl ?_
  refine xr_VR (y := yX1_herdWith) (As := [.int p0, .int p1]) (r := (some a0)) F (hno _) dX1_cohort_3 (fun z => fX1_herdWith_m (xFG F) z p0 p1) (Or.inl rfl) (ci := 0) (C := RX1) (T := TX1) rfl q2533 q2530 q2532 qs35 (xroom hRm (Nat.le_of_ble_eq_true rfl) (Nat.le_of_ble_eq_true rfl)) ⟨by decide, by decide⟩ n_X1_herdWith rfl (xcat (Nat.le_of_ble_eq_true rfl)) (fun v3 => ?_)
  refine xr_iload_n 2 F dX1_cohort_6 rfl ?_
  refine xr_VI (y := yX6_cohort) (As := [.int p1]) (r := v3) F (hno _) dX1_cohort_7 (fun z => fX6_cohort_m (xFG F) z p1) (Or.inl rfl) (ci := 19) (C := RX6) (T := TX6) rfl q2323 q2548 q2321 q2322 (xroom hRm (Nat.le_of_ble_eq_true rfl) (Nat.le_of_ble_eq_true rfl)) ⟨by decide, by decide⟩ n_X6_cohort rfl (xcat (Nat.le_of_ble_eq_true rfl)) (fun v7 => ?_)
  exact xr_iret F dX1_cohort_10
theorem fX0_cohort_m {l : Launch} {D : xD} {s0 : State} {b0 : Nat} {Γ : Nat → Option Nat} (G : xG l D s0 b0 Γ) (p0 : Option Nat) (p1 : Int32) (p2 : Int32) (p3 : Option Nat) : xMeth l D s0 Γ yX0_cohort (Cond.codeWith yX0_cohort cX0_cohort 5 (some .int) [(0, 10, 13, 25)]) (10) (176) [va_rf p0, .int p1, .int p2, va_rf p3] xeI (fX0_cohort p0 p1 p2 p3) := by
  refine xMeth.of (lv0 := [(0, va_rf p0), (1, .int p1), (2, .int p2), (3, va_rf p3)]) G (by decide +kernel) (Or.inr ⟨_, rfl⟩) (by simp [lg_sl, xrf_cat, xct_i, xct_l, xct_d, xct_r]) (by simp [lv_args, xrf_cat, xct_i, xct_l, xct_d, xct_r, xrf_some]) (fun x F hnL hRm hmn ht e1 e2 e3 e4 => ?_)
  have htb : x.2.2.2.2.2.2.2.2.2.1.exceptionTable.toList = tableOf [(0, 10, 13, 25)] := ht.2 _ rfl
  unfold fX0_cohort
  refine xr_aload_n 3 (r := p3) F dX0_cohort_0 rfl ?_
  refine xr_iconst (0 : Int32) F dX0_cohort_1 rfl ?_
  refine xr_aload_n 0 (r := p0) F dX0_cohort_2 rfl ?_
  refine xr_iload_n 1 F dX0_cohort_3 rfl ?_
  refine xr_iload_n 2 F dX0_cohort_4 rfl ?_
  refine xr_VIT (y := yX1_cohort) (As := [.int p1, .int p2]) (r := p0) F dX0_cohort_5 (fun z => fX1_cohort_m (xFG F) z p1 p2) (Or.inl rfl) (ci := 0) (C := RX1) (T := TX1) rfl q2547 q2544 q2545 q2546 (xroom hRm (Nat.le_of_ble_eq_true rfl) (Nat.le_of_ble_eq_true rfl)) ⟨by decide, by decide⟩ n_X1_cohort rfl (xcat (Nat.le_of_ble_eq_true rfl)) (fun v5 => ?_) (fun q => ?_)
  · refine xr_i2l F dX0_cohort_8 ?_
    refine xr_last (r := p3) F dX0_cohort_9 ?_
    refine xr_goto 17 F dX0_cohort_10 rfl ?_
    refine xr_iconst (0 : Int32) F dX0_cohort_17 rfl ?_
    exact xr_iret F dX0_cohort_18
  · refine xT.catch F htb (tableOf []) ⟨0, 10, 13, 25⟩ (tableOf []) rfl rfl xps0 rfl (Or.inr ⟨by decide, _, q2481, q739⟩) ?_
    refine xs_a [] F dX0_cohort_13 hnL rfl rfl xk0 ?_
    refine xr_iconst (1 : Int32) F dX0_cohort_15 rfl ?_
    exact xr_iret F dX0_cohort_16
theorem fX6_alive_p5_ok {x : xC} (F : xF x RX6 cX6_alive (some .int)) (hnL : xnL x = 4) (hRm : ∃ dc ds, x.2.2.2.1 = { frames := 1, cells := dc, slots := ds, locals := 12 }) (hno : ∀ pc, xNo x pc) (hmn : xmn x = "alive" ∧ xmy x yX6_alive) : ∀ (n : Nat) (l0 : Nat) (l1 : Int32) (l2 : Int32) (l3 : Int32), xI x xeI 5 [(0, va_rf (some l0)), (1, .int l1), (2, .int l2), (3, .int l3)] [] (fX6_alive_p5 n l0 l1 l2 l3) := by
  intro n
  induction n with
  | zero => intro l0 l1 l2 l3; exact xI.stuck
  | succ n ih =>
    intro l0 l1 l2 l3
    unfold fX6_alive_p5
    refine xr_iload_n 3 F dX6_alive_5 rfl ?_
    refine xr_iload_n 1 F dX6_alive_6 rfl ?_
    refine xr_icmp_ge 32 F dX6_alive_7 rfl ?_ ?_
    · refine xr_iload_n 2 F dX6_alive_32 rfl ?_
      exact xr_iret F dX6_alive_33
    · refine xr_iload_n 2 F dX6_alive_10 rfl ?_
      refine xr_i2l F dX6_alive_11 ?_
      refine xr_aload_n 0 (r := (some l0)) F dX6_alive_12 rfl ?_
      refine xr_gR (r := (some l0)) (ref := "ReserveLedger$Herd") F dX6_alive_13 (C := RX6) (T := TX6) (N := 8) rfl (by decide) (Or.inl q2039) (Or.inl rfl) (fun v13 => ?_)
      refine xr_iload_n 3 F dX6_alive_16 rfl ?_
      refine xr_iald (r := v13) F dX6_alive_17 (fun v17 => ?_)
      refine xr_i2l F dX6_alive_18 ?_
      refine xr_lmul F dX6_alive_19 ?_
      refine xr_ldc2 F dX6_alive_20 q2561 ?_
      refine xr_ldiv F dX6_alive_23 ?_
      refine xr_l2i F dX6_alive_24 ?_
      refine xr_letI (fun x2_25 => ?_)
      refine xs_i_n [0, 1, 3] F dX6_alive_25 hnL rfl rfl (xk1 rfl rfl (xk2 rfl rfl (xk1 rfl rfl xk0))) ?_
      refine xs_inc [3, 0, 1, 2] F dX6_alive_26 rfl hnL rfl rfl (xk2 rfl rfl (xk1 rfl rfl (xk1 rfl rfl xk0))) (fun x3_26 => ?_)
      refine xr_goto 5 F dX6_alive_29 rfl ?_
      exact xI.sub [2, 3, 1, 0] rfl (ih l0 l1 x2_25 x3_26)
theorem fX6_alive_m {l : Launch} {D : xD} {s0 : State} {b0 : Nat} {Γ : Nat → Option Nat} (G : xG l D s0 b0 Γ) (a0 : Nat) (p0 : Int32) : xMeth l D s0 Γ yX6_alive (Cond.code yX6_alive cX6_alive 4 (some .int)) (1) (12) [.ref a0, .int p0] xeI (fX6_alive a0 p0) := by
  refine xMeth.of (lv0 := [(0, va_rf (some a0)), (1, .int p0)]) G (by decide +kernel) (Or.inl rfl) (Nat.le_of_ble_eq_true rfl) rfl (fun x F hnL hRm hmn ht e1 e2 e3 e4 => ?_)
  have hno : ∀ pc, xNo x pc := fun pc z hz => by rw [ht.1 rfl] at hz; cases hz
  unfold fX6_alive
  refine xr_ldc F dX6_alive_0 q2560 ?_
  refine xr_letI (fun x2_2 => ?_)
  refine xs_i_n [0, 1] F dX6_alive_2 hnL rfl rfl (xk1 rfl rfl (xk2 rfl rfl xk0)) ?_
  refine xr_iconst (0 : Int32) F dX6_alive_3 rfl ?_
  refine xr_letI (fun x3_4 => ?_)
  refine xs_i_n [0, 1, 2] F dX6_alive_4 hnL rfl rfl (xk2 rfl rfl (xk1 rfl rfl (xk1 rfl rfl xk0))) ?_
  exact xI.sub [2, 3, 1, 0] rfl (fX6_alive_p5_ok F hnL hRm hno hmn xFU a0 p0 x2_2 x3_4)
theorem fX1_alive_m {l : Launch} {D : xD} {s0 : State} {b0 : Nat} {Γ : Nat → Option Nat} (G : xG l D s0 b0 Γ) (a0 : Nat) (p0 : Int32) (p1 : Int32) : xMeth l D s0 Γ yX1_alive (Cond.code yX1_alive cX1_alive 3 (some .int)) (9) (154) [.ref a0, .int p0, .int p1] xeI (fX1_alive a0 p0 p1) := by
  refine xMeth.of (lv0 := [(0, va_rf (some a0)), (1, .int p0), (2, .int p1)]) G (by decide +kernel) (Or.inl rfl) (Nat.le_of_ble_eq_true rfl) rfl (fun x F hnL hRm hmn ht e1 e2 e3 e4 => ?_)
  have hno : ∀ pc, xNo x pc := fun pc z hz => by rw [ht.1 rfl] at hz; cases hz
  unfold fX1_alive
  refine xr_aload_n 0 (r := (some a0)) F dX1_alive_0 rfl ?_
  refine xr_iload_n 1 F dX1_alive_1 rfl ?_
  refine xr_iload_n 2 F dX1_alive_2 rfl ?_
  refine xr_VR (y := yX1_herdWith) (As := [.int p0, .int p1]) (r := (some a0)) F (hno _) dX1_alive_3 (fun z => fX1_herdWith_m (xFG F) z p0 p1) (Or.inl rfl) (ci := 0) (C := RX1) (T := TX1) rfl q2533 q2530 q2532 qs35 (xroom hRm (Nat.le_of_ble_eq_true rfl) (Nat.le_of_ble_eq_true rfl)) ⟨by decide, by decide⟩ n_X1_herdWith rfl (xcat (Nat.le_of_ble_eq_true rfl)) (fun v3 => ?_)
  refine xr_iload_n 2 F dX1_alive_6 rfl ?_
  refine xr_VI (y := yX6_alive) (As := [.int p1]) (r := v3) F (hno _) dX1_alive_7 (fun z => fX6_alive_m (xFG F) z p1) (Or.inl rfl) (ci := 19) (C := RX6) (T := TX6) rfl q2559 q2556 q2557 q2558 (xroom hRm (Nat.le_of_ble_eq_true rfl) (Nat.le_of_ble_eq_true rfl)) ⟨by decide, by decide⟩ n_X6_alive rfl (xcat (Nat.le_of_ble_eq_true rfl)) (fun v7 => ?_)
  exact xr_iret F dX1_alive_10
theorem fX0_alive_m {l : Launch} {D : xD} {s0 : State} {b0 : Nat} {Γ : Nat → Option Nat} (G : xG l D s0 b0 Γ) (p0 : Option Nat) (p1 : Int32) (p2 : Int32) (p3 : Option Nat) : xMeth l D s0 Γ yX0_alive (Cond.codeWith yX0_alive cX0_alive 5 (some .int) [(0, 10, 13, 25)]) (10) (176) [va_rf p0, .int p1, .int p2, va_rf p3] xeI (fX0_alive p0 p1 p2 p3) := by
  refine xMeth.of (lv0 := [(0, va_rf p0), (1, .int p1), (2, .int p2), (3, va_rf p3)]) G (by decide +kernel) (Or.inr ⟨_, rfl⟩) (by simp [lg_sl, xrf_cat, xct_i, xct_l, xct_d, xct_r]) (by simp [lv_args, xrf_cat, xct_i, xct_l, xct_d, xct_r, xrf_some]) (fun x F hnL hRm hmn ht e1 e2 e3 e4 => ?_)
  have htb : x.2.2.2.2.2.2.2.2.2.1.exceptionTable.toList = tableOf [(0, 10, 13, 25)] := ht.2 _ rfl
  unfold fX0_alive
  refine xr_aload_n 3 (r := p3) F dX0_alive_0 rfl ?_
  refine xr_iconst (0 : Int32) F dX0_alive_1 rfl ?_
  refine xr_aload_n 0 (r := p0) F dX0_alive_2 rfl ?_
  refine xr_iload_n 1 F dX0_alive_3 rfl ?_
  refine xr_iload_n 2 F dX0_alive_4 rfl ?_
  refine xr_VIT (y := yX1_alive) (As := [.int p1, .int p2]) (r := p0) F dX0_alive_5 (fun z => fX1_alive_m (xFG F) z p1 p2) (Or.inl rfl) (ci := 0) (C := RX1) (T := TX1) rfl q2555 q2552 q2553 q2554 (xroom hRm (Nat.le_of_ble_eq_true rfl) (Nat.le_of_ble_eq_true rfl)) ⟨by decide, by decide⟩ n_X1_alive rfl (xcat (Nat.le_of_ble_eq_true rfl)) (fun v5 => ?_) (fun q => ?_)
  · refine xr_i2l F dX0_alive_8 ?_
    refine xr_last (r := p3) F dX0_alive_9 ?_
    refine xr_goto 17 F dX0_alive_10 rfl ?_
    refine xr_iconst (0 : Int32) F dX0_alive_17 rfl ?_
    exact xr_iret F dX0_alive_18
  · refine xT.catch F htb (tableOf []) ⟨0, 10, 13, 25⟩ (tableOf []) rfl rfl xps0 rfl (Or.inr ⟨by decide, _, q2481, q739⟩) ?_
    refine xs_a [] F dX0_alive_13 hnL rfl rfl xk0 ?_
    refine xr_iconst (1 : Int32) F dX0_alive_15 rfl ?_
    exact xr_iret F dX0_alive_16
theorem fX1_dying_m {l : Launch} {D : xD} {s0 : State} {b0 : Nat} {Γ : Nat → Option Nat} (G : xG l D s0 b0 Γ) (a0 : Nat) (p0 : Int32) (p1 : Int32) : xMeth l D s0 Γ yX1_dying (Cond.code yX1_dying cX1_dying 4 (some .int)) (9) (154) [.ref a0, .int p0, .int p1] xeI (fX1_dying a0 p0 p1) := by
  refine xMeth.of (lv0 := [(0, va_rf (some a0)), (1, .int p0), (2, .int p1)]) G (by decide +kernel) (Or.inl rfl) (Nat.le_of_ble_eq_true rfl) rfl (fun x F hnL hRm hmn ht e1 e2 e3 e4 => ?_)
  have hno : ∀ pc, xNo x pc := fun pc z hz => by rw [ht.1 rfl] at hz; cases hz
  unfold fX1_dying
  refine xr_aload_n 0 (r := (some a0)) F dX1_dying_0 rfl ?_
  refine xr_iload_n 1 F dX1_dying_1 rfl ?_
  refine xr_iload_n 2 F dX1_dying_2 rfl ?_
  refine xr_VR (y := yX1_herdWith) (As := [.int p0, .int p1]) (r := (some a0)) F (hno _) dX1_dying_3 (fun z => fX1_herdWith_m (xFG F) z p0 p1) (Or.inl rfl) (ci := 0) (C := RX1) (T := TX1) rfl q2533 q2530 q2532 qs35 (xroom hRm (Nat.le_of_ble_eq_true rfl) (Nat.le_of_ble_eq_true rfl)) ⟨by decide, by decide⟩ n_X1_herdWith rfl (xcat (Nat.le_of_ble_eq_true rfl)) (fun v3 => ?_)
  refine xs_a_n [2] F dX1_dying_6 hnL rfl rfl (xk2 rfl rfl xk0) ?_
  refine xr_iload_n 1 F dX1_dying_7 rfl ?_
  refine xr_aload_n 0 (r := v3) F dX1_dying_8 rfl ?_
  refine xr_gR (r := v3) (ref := "ReserveLedger$Herd") F dX1_dying_9 (C := RX6) (T := TX6) (N := 8) rfl (by decide) (Or.inr ⟨_, q2037⟩) (Or.inl rfl) (fun v9 => ?_)
  refine xr_gI (r := v9) (ref := "ReserveLedger$Species") F dX1_dying_12 (C := RX7) (T := TX7) (N := 6) rfl (by decide) (Or.inr ⟨_, q1920⟩) (Or.inl rfl) (fun v12 => ?_)
  refine xr_icmp_ne 26 F dX1_dying_15 rfl ?_ ?_
  · refine xr_aload_n 0 (r := v3) F dX1_dying_18 rfl ?_
    refine xr_iload_n 1 F dX1_dying_19 rfl ?_
    refine xr_VI (y := yX6_alive) (As := [.int p1]) (r := v3) F (hno _) dX1_dying_20 (fun z => fX6_alive_m (xFG F) z p1) (Or.inl rfl) (ci := 19) (C := RX6) (T := TX6) rfl q2559 q2556 q2557 q2558 (xroom hRm (Nat.le_of_ble_eq_true rfl) (Nat.le_of_ble_eq_true rfl)) ⟨by decide, by decide⟩ n_X6_alive rfl (xcat (Nat.le_of_ble_eq_true rfl)) (fun v20 => ?_)
    refine xr_goto 39 F dX1_dying_23 rfl ?_
    exact xr_iret F dX1_dying_39
  · refine xr_aload_n 0 (r := v3) F dX1_dying_26 rfl ?_
    refine xr_iload_n 1 F dX1_dying_27 rfl ?_
    refine xr_VI (y := yX6_alive) (As := [.int p1]) (r := v3) F (hno _) dX1_dying_28 (fun z => fX6_alive_m (xFG F) z p1) (Or.inl rfl) (ci := 19) (C := RX6) (T := TX6) rfl q2559 q2556 q2557 q2558 (xroom hRm (Nat.le_of_ble_eq_true rfl) (Nat.le_of_ble_eq_true rfl)) ⟨by decide, by decide⟩ n_X6_alive rfl (xcat (Nat.le_of_ble_eq_true rfl)) (fun v28 => ?_)
    refine xr_aload_n 0 (r := v3) F dX1_dying_31 rfl ?_
    refine xr_iload_n 1 F dX1_dying_32 rfl ?_
    refine xr_iconst (1 : Int32) F dX1_dying_33 rfl ?_
    refine xr_iadd F dX1_dying_34 ?_
    refine xr_VI (y := yX6_alive) (As := [.int (p1 + (1 : Int32))]) (r := v3) F (hno _) dX1_dying_35 (fun z => fX6_alive_m (xFG F) z (p1 + (1 : Int32))) (Or.inl rfl) (ci := 19) (C := RX6) (T := TX6) rfl q2559 q2556 q2557 q2558 (xroom hRm (Nat.le_of_ble_eq_true rfl) (Nat.le_of_ble_eq_true rfl)) ⟨by decide, by decide⟩ n_X6_alive rfl (xcat (Nat.le_of_ble_eq_true rfl)) (fun v35 => ?_)
    refine xr_isub F dX1_dying_38 ?_
    exact xr_iret F dX1_dying_39
theorem fX0_dying_m {l : Launch} {D : xD} {s0 : State} {b0 : Nat} {Γ : Nat → Option Nat} (G : xG l D s0 b0 Γ) (p0 : Option Nat) (p1 : Int32) (p2 : Int32) (p3 : Option Nat) : xMeth l D s0 Γ yX0_dying (Cond.codeWith yX0_dying cX0_dying 5 (some .int) [(0, 10, 13, 25)]) (10) (177) [va_rf p0, .int p1, .int p2, va_rf p3] xeI (fX0_dying p0 p1 p2 p3) := by
  refine xMeth.of (lv0 := [(0, va_rf p0), (1, .int p1), (2, .int p2), (3, va_rf p3)]) G (by decide +kernel) (Or.inr ⟨_, rfl⟩) (by simp [lg_sl, xrf_cat, xct_i, xct_l, xct_d, xct_r]) (by simp [lv_args, xrf_cat, xct_i, xct_l, xct_d, xct_r, xrf_some]) (fun x F hnL hRm hmn ht e1 e2 e3 e4 => ?_)
  have htb : x.2.2.2.2.2.2.2.2.2.1.exceptionTable.toList = tableOf [(0, 10, 13, 25)] := ht.2 _ rfl
  unfold fX0_dying
  refine xr_aload_n 3 (r := p3) F dX0_dying_0 rfl ?_
  refine xr_iconst (0 : Int32) F dX0_dying_1 rfl ?_
  refine xr_aload_n 0 (r := p0) F dX0_dying_2 rfl ?_
  refine xr_iload_n 1 F dX0_dying_3 rfl ?_
  refine xr_iload_n 2 F dX0_dying_4 rfl ?_
  refine xr_VIT (y := yX1_dying) (As := [.int p1, .int p2]) (r := p0) F dX0_dying_5 (fun z => fX1_dying_m (xFG F) z p1 p2) (Or.inl rfl) (ci := 0) (C := RX1) (T := TX1) rfl q2568 q2565 q2566 q2567 (xroom hRm (Nat.le_of_ble_eq_true rfl) (Nat.le_of_ble_eq_true rfl)) ⟨by decide, by decide⟩ n_X1_dying rfl (xcat (Nat.le_of_ble_eq_true rfl)) (fun v5 => ?_) (fun q => ?_)
  · refine xr_i2l F dX0_dying_8 ?_
    refine xr_last (r := p3) F dX0_dying_9 ?_
    refine xr_goto 17 F dX0_dying_10 rfl ?_
    refine xr_iconst (0 : Int32) F dX0_dying_17 rfl ?_
    exact xr_iret F dX0_dying_18
  · refine xT.catch F htb (tableOf []) ⟨0, 10, 13, 25⟩ (tableOf []) rfl rfl xps0 rfl (Or.inr ⟨by decide, _, q2481, q739⟩) ?_
    refine xs_a [] F dX0_dying_13 hnL rfl rfl xk0 ?_
    refine xr_iconst (1 : Int32) F dX0_dying_15 rfl ?_
    exact xr_iret F dX0_dying_16
theorem fX1_expectation_p15_ok {x : xC} (F : xF x RX1 cX1_expectation (some .double)) (hnL : xnL x = 6) (hRm : ∃ dc ds, x.2.2.2.1 = { frames := 9, cells := dc, slots := ds, locals := 154 }) (hno : ∀ pc, xNo x pc) (hmn : xmn x = "expectation" ∧ xmy x yX1_expectation) : ∀ (n : Nat) (l2 : Int32) (l3 : Option Nat) (l4 : Int32) (l5 : Int32), xI x xeD 15 [(2, .int l2), (3, va_rf l3), (4, .int l4), (5, .int l5)] [] (fX1_expectation_p15 n l2 l3 l4 l5) := by
  intro n
  induction n with
  | zero => intro l2 l3 l4 l5; exact xI.stuck
  | succ n ih =>
    intro l2 l3 l4 l5
    unfold fX1_expectation_p15
    refine xr_iload 3 F dX1_expectation_15 rfl ?_
    refine xr_aload_n 1 (r := l3) F dX1_expectation_17 rfl ?_
    refine xr_gR (r := l3) (ref := "ReserveLedger$Herd") F dX1_expectation_18 (C := RX6) (T := TX6) (N := 8) rfl (by decide) (Or.inr ⟨_, q2037⟩) (Or.inl rfl) (fun v18 => ?_)
    refine xr_gI (r := v18) (ref := "ReserveLedger$Species") F dX1_expectation_21 (C := RX7) (T := TX7) (N := 6) rfl (by decide) (Or.inr ⟨_, q1920⟩) (Or.inl rfl) (fun v21 => ?_)
    refine xr_icmp_gt 44 F dX1_expectation_24 rfl ?_ ?_
    · refine xr_aload_n 1 (r := l3) F dX1_expectation_44 rfl ?_
      refine xr_iload_n 0 F dX1_expectation_45 rfl ?_
      refine xr_VI (y := yX6_alive) (As := [.int l2]) (r := l3) F (hno _) dX1_expectation_46 (fun z => fX6_alive_m (xFG F) z l2) (Or.inl rfl) (ci := 19) (C := RX6) (T := TX6) rfl q2559 q2556 q2557 q2558 (xroom hRm (Nat.le_of_ble_eq_true rfl) (Nat.le_of_ble_eq_true rfl)) ⟨by decide, by decide⟩ n_X6_alive rfl (xcat (Nat.le_of_ble_eq_true rfl)) (fun v46 => ?_)
      refine xs_i [2] F dX1_expectation_49 hnL rfl rfl (xk2 rfl rfl xk0) ?_
      refine xr_iload 0 F dX1_expectation_51 rfl ?_
      refine xr_if_ne 60 F dX1_expectation_53 rfl ?_ ?_
      · refine xr_dconst0 F dX1_expectation_56 ?_
        refine xr_goto 71 F dX1_expectation_57 rfl ?_
        exact xr_dret F dX1_expectation_71
      · refine xr_iload 1 F dX1_expectation_60 rfl ?_
        refine xr_i2d F dX1_expectation_62 ?_
        refine xr_iload 0 F dX1_expectation_63 rfl ?_
        refine xr_i2d F dX1_expectation_65 ?_
        refine xr_ddiv F dX1_expectation_66 ?_
        refine xr_ldc2d F dX1_expectation_67 q2576 ?_
        refine xr_dadd F dX1_expectation_70 ?_
        exact xr_dret F dX1_expectation_71
    · refine xr_iload 2 F dX1_expectation_27 rfl ?_
      refine xr_aload_n 1 (r := l3) F dX1_expectation_29 rfl ?_
      refine xr_iload 3 F dX1_expectation_30 rfl ?_
      refine xr_VI (y := yX6_alive) (As := [.int l5]) (r := l3) F (hno _) dX1_expectation_32 (fun z => fX6_alive_m (xFG F) z l5) (Or.inl rfl) (ci := 19) (C := RX6) (T := TX6) rfl q2559 q2556 q2557 q2558 (xroom hRm (Nat.le_of_ble_eq_true rfl) (Nat.le_of_ble_eq_true rfl)) ⟨by decide, by decide⟩ n_X6_alive rfl (xcat (Nat.le_of_ble_eq_true rfl)) (fun v32 => ?_)
      refine xr_iadd F dX1_expectation_35 ?_
      refine xr_letI (fun x4_36 => ?_)
      refine xs_i [0, 1, 3] F dX1_expectation_36 hnL rfl rfl (xk1 rfl rfl (xk2 rfl (xrf_cat _) (xk1 rfl rfl xk0))) ?_
      refine xs_inc [3, 0, 1, 2] F dX1_expectation_38 rfl hnL rfl rfl (xk2 rfl rfl (xk1 rfl rfl (xk1 rfl rfl xk0))) (fun x5_38 => ?_)
      refine xr_goto 15 F dX1_expectation_41 rfl ?_
      exact xI.sub [2, 3, 1, 0] rfl (ih l2 l3 x4_36 x5_38)
theorem fX1_expectation_m {l : Launch} {D : xD} {s0 : State} {b0 : Nat} {Γ : Nat → Option Nat} (G : xG l D s0 b0 Γ) (a0 : Nat) (p0 : Int32) (p1 : Int32) : xMeth l D s0 Γ yX1_expectation (Cond.code yX1_expectation cX1_expectation 6 (some .double)) (9) (154) [.ref a0, .int p0, .int p1] xeD (fX1_expectation a0 p0 p1) := by
  refine xMeth.of (lv0 := [(0, va_rf (some a0)), (1, .int p0), (2, .int p1)]) G (by decide +kernel) (Or.inl rfl) (Nat.le_of_ble_eq_true rfl) rfl (fun x F hnL hRm hmn ht e1 e2 e3 e4 => ?_)
  have hno : ∀ pc, xNo x pc := fun pc z hz => by rw [ht.1 rfl] at hz; cases hz
  unfold fX1_expectation
  refine xr_aload_n 0 (r := (some a0)) F dX1_expectation_0 rfl ?_
  refine xr_iload_n 1 F dX1_expectation_1 rfl ?_
  refine xr_iload_n 2 F dX1_expectation_2 rfl ?_
  refine xr_VR (y := yX1_herdWith) (As := [.int p0, .int p1]) (r := (some a0)) F (hno _) dX1_expectation_3 (fun z => fX1_herdWith_m (xFG F) z p0 p1) (Or.inl rfl) (ci := 0) (C := RX1) (T := TX1) rfl q2533 q2530 q2532 qs35 (xroom hRm (Nat.le_of_ble_eq_true rfl) (Nat.le_of_ble_eq_true rfl)) ⟨by decide, by decide⟩ n_X1_herdWith rfl (xcat (Nat.le_of_ble_eq_true rfl)) (fun v3 => ?_)
  refine xs_a_n [2] F dX1_expectation_6 hnL rfl rfl (xk2 rfl rfl xk0) ?_
  refine xr_iconst (0 : Int32) F dX1_expectation_7 rfl ?_
  refine xr_letI (fun x4_8 => ?_)
  refine xs_i [0, 1] F dX1_expectation_8 hnL rfl rfl (xk2 rfl (xrf_cat _) (xk1 rfl rfl xk0)) ?_
  refine xr_iload_n 2 F dX1_expectation_10 rfl ?_
  refine xr_iconst (1 : Int32) F dX1_expectation_11 rfl ?_
  refine xr_iadd F dX1_expectation_12 ?_
  refine xr_letI (fun x5_13 => ?_)
  refine xs_i [0, 1, 2] F dX1_expectation_13 hnL rfl rfl (xk2 rfl rfl (xk1 rfl rfl (xk1 rfl rfl xk0))) ?_
  exact xI.sub [3, 2, 1, 0] rfl (fX1_expectation_p15_ok F hnL hRm hno hmn xFU p1 v3 x4_8 x5_13)
theorem fX0_expectation_m {l : Launch} {D : xD} {s0 : State} {b0 : Nat} {Γ : Nat → Option Nat} (G : xG l D s0 b0 Γ) (p0 : Option Nat) (p1 : Int32) (p2 : Int32) (p3 : Option Nat) : xMeth l D s0 Γ yX0_expectation (Cond.codeWith yX0_expectation cX0_expectation 5 (some .int) [(0, 9, 12, 25)]) (10) (179) [va_rf p0, .int p1, .int p2, va_rf p3] xeI (fX0_expectation p0 p1 p2 p3) := by
  refine xMeth.of (lv0 := [(0, va_rf p0), (1, .int p1), (2, .int p2), (3, va_rf p3)]) G (by decide +kernel) (Or.inr ⟨_, rfl⟩) (by simp [lg_sl, xrf_cat, xct_i, xct_l, xct_d, xct_r]) (by simp [lv_args, xrf_cat, xct_i, xct_l, xct_d, xct_r, xrf_some]) (fun x F hnL hRm hmn ht e1 e2 e3 e4 => ?_)
  have htb : x.2.2.2.2.2.2.2.2.2.1.exceptionTable.toList = tableOf [(0, 9, 12, 25)] := ht.2 _ rfl
  unfold fX0_expectation
  refine xr_aload_n 3 (r := p3) F dX0_expectation_0 rfl ?_
  refine xr_iconst (0 : Int32) F dX0_expectation_1 rfl ?_
  refine xr_aload_n 0 (r := p0) F dX0_expectation_2 rfl ?_
  refine xr_iload_n 1 F dX0_expectation_3 rfl ?_
  refine xr_iload_n 2 F dX0_expectation_4 rfl ?_
  refine xr_VDT (y := yX1_expectation) (As := [.int p1, .int p2]) (r := p0) F dX0_expectation_5 (fun z => fX1_expectation_m (xFG F) z p1 p2) (Or.inl rfl) (ci := 0) (C := RX1) (T := TX1) rfl q2575 q2572 q2573 q2574 (xroom hRm (Nat.le_of_ble_eq_true rfl) (Nat.le_of_ble_eq_true rfl)) ⟨by decide, by decide⟩ n_X1_expectation rfl (xcat (Nat.le_of_ble_eq_true rfl)) (fun v5 => ?_) (fun q => ?_)
  · refine xr_dast (r := p3) F dX0_expectation_8 ?_
    refine xr_goto 16 F dX0_expectation_9 rfl ?_
    refine xr_iconst (0 : Int32) F dX0_expectation_16 rfl ?_
    exact xr_iret F dX0_expectation_17
  · refine xT.catch F htb (tableOf []) ⟨0, 9, 12, 25⟩ (tableOf []) rfl rfl xps0 rfl (Or.inr ⟨by decide, _, q2481, q739⟩) ?_
    refine xs_a [] F dX0_expectation_12 hnL rfl rfl xk0 ?_
    refine xr_iconst (1 : Int32) F dX0_expectation_14 rfl ?_
    exact xr_iret F dX0_expectation_15
theorem fX1_lambda_reproduction_0_m {l : Launch} {D : xD} {s0 : State} {b0 : Nat} {Γ : Nat → Option Nat} (G : xG l D s0 b0 Γ) (p0 : Option Nat) (p1 : Int32) : xMeth l D s0 Γ yX1_lambda_reproduction_0 (Cond.code yX1_lambda_reproduction_0 cX1_lambda_reproduction_0 2 (some .long)) (2) (35) [va_rf p0, .int p1] xeJ (fX1_lambda_reproduction_0 p0 p1) := by
  refine xMeth.of (lv0 := [(0, va_rf p0), (1, .int p1)]) G (by decide +kernel) (Or.inl rfl) (by simp [lg_sl, xrf_cat, xct_i, xct_l, xct_d, xct_r]) (by simp [lv_args, xrf_cat, xct_i, xct_l, xct_d, xct_r, xrf_some]) (fun x F hnL hRm hmn ht e1 e2 e3 e4 => ?_)
  have hno : ∀ pc, xNo x pc := fun pc z hz => by rw [ht.1 rfl] at hz; cases hz
  unfold fX1_lambda_reproduction_0
  refine xr_aload_n 0 (r := p0) F dX1_lambda_reproduction_0_0 rfl ?_
  refine xr_iload_n 1 F dX1_lambda_reproduction_0_1 rfl ?_
  refine xr_VI (y := yX6_alive) (As := [.int p1]) (r := p0) F (hno _) dX1_lambda_reproduction_0_2 (fun z => fX6_alive_m (xFG F) z p1) (Or.inl rfl) (ci := 19) (C := RX6) (T := TX6) rfl q2559 q2556 q2557 q2558 (xroom hRm (Nat.le_of_ble_eq_true rfl) (Nat.le_of_ble_eq_true rfl)) ⟨by decide, by decide⟩ n_X6_alive rfl (xcat (Nat.le_of_ble_eq_true rfl)) (fun v2 => ?_)
  refine xr_i2l F dX1_lambda_reproduction_0_5 ?_
  refine xr_aload_n 0 (r := p0) F dX1_lambda_reproduction_0_6 rfl ?_
  refine xr_gR (r := p0) (ref := "ReserveLedger$Herd") F dX1_lambda_reproduction_0_7 (C := RX6) (T := TX6) (N := 8) rfl (by decide) (Or.inr ⟨_, q2037⟩) (Or.inl rfl) (fun v7 => ?_)
  refine xr_gR (r := v7) (ref := "ReserveLedger$Species") F dX1_lambda_reproduction_0_10 (C := RX7) (T := TX7) (N := 6) rfl (by decide) (Or.inr ⟨_, q1925⟩) (Or.inl rfl) (fun v10 => ?_)
  refine xr_iload_n 1 F dX1_lambda_reproduction_0_13 rfl ?_
  refine xr_iald (r := v10) F dX1_lambda_reproduction_0_14 (fun v14 => ?_)
  refine xr_i2l F dX1_lambda_reproduction_0_15 ?_
  refine xr_lmul F dX1_lambda_reproduction_0_16 ?_
  exact xr_lret F dX1_lambda_reproduction_0_17
theorem xrL_0 {α : Type} {x : xC} {emb : α → Option Value} {own : String} {cc : ByteArray} {ret : Option FieldType} {pc idx cnt : Nat} {lv : List (Nat × Value)} {st st0 : List Value} {kk : Int64 → xM α} {r : Option Nat} (p0 : Int32) (F : xF x own cc ret) (hno : xNo x pc) (hd : decode cc pc = .ok (.invokeinterface idx cnt, 5)) (w3 : Cond.methodLink own idx ⟨"ReserveLedger$Term", "of", "(I)J"⟩ ∈ lw_all) (hroom : xRoom x 4 77) (hst : st0 = ([.int p0] : List Value).reverse ++ va_rf r :: st) (hcat : (st.map fun v => v.category).sum ≤ 8) (K : ∀ v, xI x emb (pc + 5) lv (.long v :: st) (kk v)) : xI x emb pc lv st0 (xbind (xsel r [(1000, fun z => fL_0 z p0)]) kk) := by
  refine xr_L (k := 0) (x0 := ⟨"ReserveLedger$Term", "of", "(I)J"⟩) (yi := yX1_lambda_reproduction_0) (As := [.int p0]) (embb := xeJ) (fr := 3) (lo := 56) (fs := [(15, 0)]) F hno hd rfl q4100 xlfile_0 xlsec_0 xllaid_0 xlcode_0 xlflags_0 xleN_0 xleC_0 (fun fi i hm => by
    simp only [List.mem_cons, List.not_mem_nil, or_false, Prod.mk.injEq] at hm
    rcases hm with ⟨rfl, rfl⟩
    · exact ⟨_, _, _, _, xleF_0_0⟩) ⟨rfl, rfl, xlS_0.2.symm⟩ ⟨rfl, rfl, xlS_0.1.symm⟩ (by decide +kernel) w3 q2592 q2591 ⟨by decide, by decide⟩ ⟨by decide, by decide⟩ (fun a => by simp [lg_sl, xrf_cat, xct_i, xct_l, xct_d, xct_r]) (fun x1 a F1 hnL hRm hno1 hr e1 e2 e3 e4 => ?_) hroom (show ∀ sig, parseMethodDescriptor "(I)J" = some sig → 1 = sig.parameters.length from xln (by decide +kernel)) hst hcat K
  show xI x1 _ 0 _ [] (fL_0 a p0)
  unfold fL_0
  refine xl_aload 0 (r := some a) F1 xld_0_0 rfl ?_
  refine xl_gR F1 xld_0_1 hr (by decide) (by decide) (fun c0 => ?_)
  refine xl_iload 1 F1 xld_0_4 rfl ?_
  refine xl_S (yi := yX1_lambda_reproduction_0) (As := [va_rf c0, .int p0]) (st := []) (embb := xeJ) F1 (hno1 _) hr xld_0_5 (fX1_lambda_reproduction_0_m (xFLG F1) c0 p0) (Or.inl rfl) q2585 q121 q2584 (xroom hRm (Nat.le_of_ble_eq_true rfl) (Nat.le_of_ble_eq_true rfl)) ⟨by decide, by decide⟩ n_X1_lambda_reproduction_0 rfl (xcat (Nat.le_of_ble_eq_true rfl)) (fun v => ?_)
  exact xl_lret F1 xld_0_8
theorem fX1_lambda_generation_1_m {l : Launch} {D : xD} {s0 : State} {b0 : Nat} {Γ : Nat → Option Nat} (G : xG l D s0 b0 Γ) (p0 : Option Nat) (p1 : Int32) : xMeth l D s0 Γ yX1_lambda_generation_1 (Cond.code yX1_lambda_generation_1 cX1_lambda_generation_1 2 (some .long)) (2) (35) [va_rf p0, .int p1] xeJ (fX1_lambda_generation_1 p0 p1) := by
  refine xMeth.of (lv0 := [(0, va_rf p0), (1, .int p1)]) G (by decide +kernel) (Or.inl rfl) (by simp [lg_sl, xrf_cat, xct_i, xct_l, xct_d, xct_r]) (by simp [lv_args, xrf_cat, xct_i, xct_l, xct_d, xct_r, xrf_some]) (fun x F hnL hRm hmn ht e1 e2 e3 e4 => ?_)
  have hno : ∀ pc, xNo x pc := fun pc z hz => by rw [ht.1 rfl] at hz; cases hz
  unfold fX1_lambda_generation_1
  refine xr_aload_n 0 (r := p0) F dX1_lambda_generation_1_0 rfl ?_
  refine xr_iload_n 1 F dX1_lambda_generation_1_1 rfl ?_
  refine xr_VI (y := yX6_alive) (As := [.int p1]) (r := p0) F (hno _) dX1_lambda_generation_1_2 (fun z => fX6_alive_m (xFG F) z p1) (Or.inl rfl) (ci := 19) (C := RX6) (T := TX6) rfl q2559 q2556 q2557 q2558 (xroom hRm (Nat.le_of_ble_eq_true rfl) (Nat.le_of_ble_eq_true rfl)) ⟨by decide, by decide⟩ n_X6_alive rfl (xcat (Nat.le_of_ble_eq_true rfl)) (fun v2 => ?_)
  refine xr_i2l F dX1_lambda_generation_1_5 ?_
  refine xr_aload_n 0 (r := p0) F dX1_lambda_generation_1_6 rfl ?_
  refine xr_gR (r := p0) (ref := "ReserveLedger$Herd") F dX1_lambda_generation_1_7 (C := RX6) (T := TX6) (N := 8) rfl (by decide) (Or.inr ⟨_, q2037⟩) (Or.inl rfl) (fun v7 => ?_)
  refine xr_gR (r := v7) (ref := "ReserveLedger$Species") F dX1_lambda_generation_1_10 (C := RX7) (T := TX7) (N := 6) rfl (by decide) (Or.inr ⟨_, q1925⟩) (Or.inl rfl) (fun v10 => ?_)
  refine xr_iload_n 1 F dX1_lambda_generation_1_13 rfl ?_
  refine xr_iald (r := v10) F dX1_lambda_generation_1_14 (fun v14 => ?_)
  refine xr_i2l F dX1_lambda_generation_1_15 ?_
  refine xr_lmul F dX1_lambda_generation_1_16 ?_
  exact xr_lret F dX1_lambda_generation_1_17
theorem xrL_1 {α : Type} {x : xC} {emb : α → Option Value} {own : String} {cc : ByteArray} {ret : Option FieldType} {pc idx cnt : Nat} {lv : List (Nat × Value)} {st st0 : List Value} {kk : Int64 → xM α} {r : Option Nat} (p0 : Int32) (F : xF x own cc ret) (hno : xNo x pc) (hd : decode cc pc = .ok (.invokeinterface idx cnt, 5)) (w3 : Cond.methodLink own idx ⟨"ReserveLedger$Term", "of", "(I)J"⟩ ∈ lw_all) (hroom : xRoom x 4 77) (hst : st0 = ([.int p0] : List Value).reverse ++ va_rf r :: st) (hcat : (st.map fun v => v.category).sum ≤ 8) (K : ∀ v, xI x emb (pc + 5) lv (.long v :: st) (kk v)) : xI x emb pc lv st0 (xbind (xsel r [(1001, fun z => fL_1 z p0)]) kk) := by
  refine xr_L (k := 1) (x0 := ⟨"ReserveLedger$Term", "of", "(I)J"⟩) (yi := yX1_lambda_generation_1) (As := [.int p0]) (embb := xeJ) (fr := 3) (lo := 56) (fs := [(15, 0)]) F hno hd rfl q4100 xlfile_1 xlsec_1 xllaid_1 xlcode_1 xlflags_1 xleN_1 xleC_1 (fun fi i hm => by
    simp only [List.mem_cons, List.not_mem_nil, or_false, Prod.mk.injEq] at hm
    rcases hm with ⟨rfl, rfl⟩
    · exact ⟨_, _, _, _, xleF_1_0⟩) ⟨rfl, rfl, xlS_1.2.symm⟩ ⟨rfl, rfl, xlS_1.1.symm⟩ (by decide +kernel) w3 q2592 q2591 ⟨by decide, by decide⟩ ⟨by decide, by decide⟩ (fun a => by simp [lg_sl, xrf_cat, xct_i, xct_l, xct_d, xct_r]) (fun x1 a F1 hnL hRm hno1 hr e1 e2 e3 e4 => ?_) hroom (show ∀ sig, parseMethodDescriptor "(I)J" = some sig → 1 = sig.parameters.length from xln (by decide +kernel)) hst hcat K
  show xI x1 _ 0 _ [] (fL_1 a p0)
  unfold fL_1
  refine xl_aload 0 (r := some a) F1 xld_1_0 rfl ?_
  refine xl_gR F1 xld_1_1 hr (by decide) (by decide) (fun c0 => ?_)
  refine xl_iload 1 F1 xld_1_4 rfl ?_
  refine xl_S (yi := yX1_lambda_generation_1) (As := [va_rf c0, .int p0]) (st := []) (embb := xeJ) F1 (hno1 _) hr xld_1_5 (fX1_lambda_generation_1_m (xFLG F1) c0 p0) (Or.inl rfl) q2602 q121 q2601 (xroom hRm (Nat.le_of_ble_eq_true rfl) (Nat.le_of_ble_eq_true rfl)) ⟨by decide, by decide⟩ n_X1_lambda_generation_1 rfl (xcat (Nat.le_of_ble_eq_true rfl)) (fun v => ?_)
  exact xl_lret F1 xld_1_8
theorem fX1_lambda_generation_2_m {l : Launch} {D : xD} {s0 : State} {b0 : Nat} {Γ : Nat → Option Nat} (G : xG l D s0 b0 Γ) (p0 : Option Nat) (p1 : Int32) : xMeth l D s0 Γ yX1_lambda_generation_2 (Cond.code yX1_lambda_generation_2 cX1_lambda_generation_2 2 (some .long)) (2) (35) [va_rf p0, .int p1] xeJ (fX1_lambda_generation_2 p0 p1) := by
  refine xMeth.of (lv0 := [(0, va_rf p0), (1, .int p1)]) G (by decide +kernel) (Or.inl rfl) (by simp [lg_sl, xrf_cat, xct_i, xct_l, xct_d, xct_r]) (by simp [lv_args, xrf_cat, xct_i, xct_l, xct_d, xct_r, xrf_some]) (fun x F hnL hRm hmn ht e1 e2 e3 e4 => ?_)
  have hno : ∀ pc, xNo x pc := fun pc z hz => by rw [ht.1 rfl] at hz; cases hz
  unfold fX1_lambda_generation_2
  refine xr_iload_n 1 F dX1_lambda_generation_2_0 rfl ?_
  refine xr_i2l F dX1_lambda_generation_2_1 ?_
  refine xr_aload_n 0 (r := p0) F dX1_lambda_generation_2_2 rfl ?_
  refine xr_iload_n 1 F dX1_lambda_generation_2_3 rfl ?_
  refine xr_VI (y := yX6_alive) (As := [.int p1]) (r := p0) F (hno _) dX1_lambda_generation_2_4 (fun z => fX6_alive_m (xFG F) z p1) (Or.inl rfl) (ci := 19) (C := RX6) (T := TX6) rfl q2559 q2556 q2557 q2558 (xroom hRm (Nat.le_of_ble_eq_true rfl) (Nat.le_of_ble_eq_true rfl)) ⟨by decide, by decide⟩ n_X6_alive rfl (xcat (Nat.le_of_ble_eq_true rfl)) (fun v4 => ?_)
  refine xr_i2l F dX1_lambda_generation_2_7 ?_
  refine xr_lmul F dX1_lambda_generation_2_8 ?_
  refine xr_aload_n 0 (r := p0) F dX1_lambda_generation_2_9 rfl ?_
  refine xr_gR (r := p0) (ref := "ReserveLedger$Herd") F dX1_lambda_generation_2_10 (C := RX6) (T := TX6) (N := 8) rfl (by decide) (Or.inr ⟨_, q2037⟩) (Or.inl rfl) (fun v10 => ?_)
  refine xr_gR (r := v10) (ref := "ReserveLedger$Species") F dX1_lambda_generation_2_13 (C := RX7) (T := TX7) (N := 6) rfl (by decide) (Or.inr ⟨_, q1925⟩) (Or.inl rfl) (fun v13 => ?_)
  refine xr_iload_n 1 F dX1_lambda_generation_2_16 rfl ?_
  refine xr_iald (r := v13) F dX1_lambda_generation_2_17 (fun v17 => ?_)
  refine xr_i2l F dX1_lambda_generation_2_18 ?_
  refine xr_lmul F dX1_lambda_generation_2_19 ?_
  exact xr_lret F dX1_lambda_generation_2_20
theorem xrL_2 {α : Type} {x : xC} {emb : α → Option Value} {own : String} {cc : ByteArray} {ret : Option FieldType} {pc idx cnt : Nat} {lv : List (Nat × Value)} {st st0 : List Value} {kk : Int64 → xM α} {r : Option Nat} (p0 : Int32) (F : xF x own cc ret) (hno : xNo x pc) (hd : decode cc pc = .ok (.invokeinterface idx cnt, 5)) (w3 : Cond.methodLink own idx ⟨"ReserveLedger$Term", "of", "(I)J"⟩ ∈ lw_all) (hroom : xRoom x 4 77) (hst : st0 = ([.int p0] : List Value).reverse ++ va_rf r :: st) (hcat : (st.map fun v => v.category).sum ≤ 8) (K : ∀ v, xI x emb (pc + 5) lv (.long v :: st) (kk v)) : xI x emb pc lv st0 (xbind (xsel r [(1002, fun z => fL_2 z p0)]) kk) := by
  refine xr_L (k := 2) (x0 := ⟨"ReserveLedger$Term", "of", "(I)J"⟩) (yi := yX1_lambda_generation_2) (As := [.int p0]) (embb := xeJ) (fr := 3) (lo := 56) (fs := [(15, 0)]) F hno hd rfl q4100 xlfile_2 xlsec_2 xllaid_2 xlcode_2 xlflags_2 xleN_2 xleC_2 (fun fi i hm => by
    simp only [List.mem_cons, List.not_mem_nil, or_false, Prod.mk.injEq] at hm
    rcases hm with ⟨rfl, rfl⟩
    · exact ⟨_, _, _, _, xleF_2_0⟩) ⟨rfl, rfl, xlS_2.2.symm⟩ ⟨rfl, rfl, xlS_2.1.symm⟩ (by decide +kernel) w3 q2592 q2591 ⟨by decide, by decide⟩ ⟨by decide, by decide⟩ (fun a => by simp [lg_sl, xrf_cat, xct_i, xct_l, xct_d, xct_r]) (fun x1 a F1 hnL hRm hno1 hr e1 e2 e3 e4 => ?_) hroom (show ∀ sig, parseMethodDescriptor "(I)J" = some sig → 1 = sig.parameters.length from xln (by decide +kernel)) hst hcat K
  show xI x1 _ 0 _ [] (fL_2 a p0)
  unfold fL_2
  refine xl_aload 0 (r := some a) F1 xld_2_0 rfl ?_
  refine xl_gR F1 xld_2_1 hr (by decide) (by decide) (fun c0 => ?_)
  refine xl_iload 1 F1 xld_2_4 rfl ?_
  refine xl_S (yi := yX1_lambda_generation_2) (As := [va_rf c0, .int p0]) (st := []) (embb := xeJ) F1 (hno1 _) hr xld_2_5 (fX1_lambda_generation_2_m (xFLG F1) c0 p0) (Or.inl rfl) q2604 q121 q2603 (xroom hRm (Nat.le_of_ble_eq_true rfl) (Nat.le_of_ble_eq_true rfl)) ⟨by decide, by decide⟩ n_X1_lambda_generation_2 rfl (xcat (Nat.le_of_ble_eq_true rfl)) (fun v => ?_)
  exact xl_lret F1 xld_2_8
theorem fX1_overAges_p5_ok {x : xC} (F : xF x RX1 cX1_overAges (some .long)) (hnL : xnL x = 5) (hRm : ∃ dc ds, x.2.2.2.1 = { frames := 4, cells := dc, slots := ds, locals := 77 }) (hno : ∀ pc, xNo x pc) (hmn : xmn x = "overAges" ∧ xmy x yX1_overAges) : ∀ (n : Nat) (l0 : Option Nat) (l1 : Option Nat) (l2 : Int64) (l4 : Int32), xI x xeJ 5 [(0, va_rf l0), (1, va_rf l1), (2, .long l2), (4, .int l4)] [] (fX1_overAges_p5 n l0 l1 l2 l4) := by
  intro n
  induction n with
  | zero => intro l0 l1 l2 l4; exact xI.stuck
  | succ n ih =>
    intro l0 l1 l2 l4
    unfold fX1_overAges_p5
    refine xr_iload 3 F dX1_overAges_5 rfl ?_
    refine xr_aload_n 0 (r := l0) F dX1_overAges_7 rfl ?_
    refine xr_gR (r := l0) (ref := "ReserveLedger$Herd") F dX1_overAges_8 (C := RX6) (T := TX6) (N := 8) rfl (by decide) (Or.inr ⟨_, q2037⟩) (Or.inl rfl) (fun v8 => ?_)
    refine xr_gI (r := v8) (ref := "ReserveLedger$Species") F dX1_overAges_11 (C := RX7) (T := TX7) (N := 6) rfl (by decide) (Or.inr ⟨_, q1920⟩) (Or.inl rfl) (fun v11 => ?_)
    refine xr_icmp_gt 34 F dX1_overAges_14 rfl ?_ ?_
    · refine xr_lload_n 2 F dX1_overAges_34 rfl ?_
      exact xr_lret F dX1_overAges_35
    · refine xr_lload_n 2 F dX1_overAges_17 rfl ?_
      refine xr_aload_n 1 (r := l1) F dX1_overAges_18 rfl ?_
      refine xr_iload 3 F dX1_overAges_19 rfl ?_
      refine xI.alt2 (Kp := ∀ (v21 : Int64), xI x xeJ 26 [(0, va_rf l0), (1, va_rf l1), (2, .long l2), (4, .int l4)] [.long v21, .long l2] _) ?_ (fun hK => xrL_0 (r := l1) l4 F (hno _) dX1_overAges_21 q2590 (xroom hRm (Nat.le_of_ble_eq_true rfl) (Nat.le_of_ble_eq_true rfl)) rfl (xcat (Nat.le_of_ble_eq_true rfl)) hK) (fun hK => (xI.alt2 hK (fun hK => xrL_1 (r := l1) l4 F (hno _) dX1_overAges_21 q2590 (xroom hRm (Nat.le_of_ble_eq_true rfl) (Nat.le_of_ble_eq_true rfl)) rfl (xcat (Nat.le_of_ble_eq_true rfl)) hK) (fun hK => (xrL_2 (r := l1) l4 F (hno _) dX1_overAges_21 q2590 (xroom hRm (Nat.le_of_ble_eq_true rfl) (Nat.le_of_ble_eq_true rfl)) rfl (xcat (Nat.le_of_ble_eq_true rfl)) hK))))
      intro v21
      refine xr_ladd F dX1_overAges_26 ?_
      refine xr_letJ (fun x2_27 => ?_)
      refine xs_l_n [0, 1, 3] F dX1_overAges_27 hnL rfl rfl (xk1 rfl rfl (xk2 rfl (xrf_cat _) (xk1 rfl rfl xk0))) (xk21 rfl (xk21 rfl (xk21 rfl xk20))) ?_
      refine xs_inc [3, 0, 1, 2] F dX1_overAges_28 rfl hnL rfl rfl (xk1 rfl rfl (xk1 rfl rfl (xk1 rfl rfl xk0))) (fun x4_28 => ?_)
      refine xr_goto 5 F dX1_overAges_31 rfl ?_
      exact xI.sub [2, 3, 1, 0] rfl (ih l0 l1 x2_27 x4_28)
theorem fX1_overAges_m {l : Launch} {D : xD} {s0 : State} {b0 : Nat} {Γ : Nat → Option Nat} (G : xG l D s0 b0 Γ) (p0 : Option Nat) (p1 : Option Nat) : xMeth l D s0 Γ yX1_overAges (Cond.code yX1_overAges cX1_overAges 5 (some .long)) (4) (77) [va_rf p0, va_rf p1] xeJ (fX1_overAges p0 p1) := by
  refine xMeth.of (lv0 := [(0, va_rf p0), (1, va_rf p1)]) G (by decide +kernel) (Or.inl rfl) (by simp [lg_sl, xrf_cat, xct_i, xct_l, xct_d, xct_r]) (by simp [lv_args, xrf_cat, xct_i, xct_l, xct_d, xct_r, xrf_some]) (fun x F hnL hRm hmn ht e1 e2 e3 e4 => ?_)
  have hno : ∀ pc, xNo x pc := fun pc z hz => by rw [ht.1 rfl] at hz; cases hz
  unfold fX1_overAges
  refine xr_lconst 0 F dX1_overAges_0 rfl ?_
  refine xr_letJ (fun x2_1 => ?_)
  refine xs_l_n [0, 1] F dX1_overAges_1 hnL rfl rfl (xk1 rfl rfl (xk2 rfl (xrf_cat _) xk0)) (xk21 rfl (xk21 rfl xk20)) ?_
  refine xr_iconst (0 : Int32) F dX1_overAges_2 rfl ?_
  refine xr_letI (fun x4_3 => ?_)
  refine xs_i [0, 1, 2] F dX1_overAges_3 hnL rfl rfl (xk1 rfl rfl (xk1 rfl rfl (xk1 rfl rfl xk0))) ?_
  exact xI.sub [2, 3, 1, 0] rfl (fX1_overAges_p5_ok F hnL hRm hno hmn xFU p0 p1 x2_1 x4_3)
theorem fX1_reproduction_m {l : Launch} {D : xD} {s0 : State} {b0 : Nat} {Γ : Nat → Option Nat} (G : xG l D s0 b0 Γ) (a0 : Nat) (p0 : Int32) : xMeth l D s0 Γ yX1_reproduction (Cond.code yX1_reproduction cX1_reproduction 5 (some .double)) (8) (3100) [.ref a0, .int p0] xeD (fX1_reproduction a0 p0) := by
  refine xMeth.of (lv0 := [(0, va_rf (some a0)), (1, .int p0)]) G (by decide +kernel) (Or.inl rfl) (Nat.le_of_ble_eq_true rfl) rfl (fun x F hnL hRm hmn ht e1 e2 e3 e4 => ?_)
  have hno : ∀ pc, xNo x pc := fun pc z hz => by rw [ht.1 rfl] at hz; cases hz
  unfold fX1_reproduction
  refine xr_aload_n 0 (r := (some a0)) F dX1_reproduction_0 rfl ?_
  refine xr_iload_n 1 F dX1_reproduction_1 rfl ?_
  refine xr_VR (y := yX1_herd) (As := [.int p0]) (r := (some a0)) F (hno _) dX1_reproduction_2 (fun z => fX1_herd_m (xFG F) z p0) (Or.inl rfl) (ci := 0) (C := RX1) (T := TX1) rfl q2504 q2501 q2503 qs34 (xroom hRm (Nat.le_of_ble_eq_true rfl) (Nat.le_of_ble_eq_true rfl)) ⟨by decide, by decide⟩ n_X1_herd rfl (xcat (Nat.le_of_ble_eq_true rfl)) (fun v2 => ?_)
  refine xs_a_n [] F dX1_reproduction_5 hnL rfl rfl xk0 ?_
  refine xr_aload_n 0 (r := v2) F dX1_reproduction_6 rfl ?_
  refine xr_aload_n 0 (r := v2) F dX1_reproduction_7 rfl ?_
  refine xrN_0 v2 F hmn.2 rfl dX1_reproduction_8 q4100 (xroom hRm (Nat.le_of_ble_eq_true rfl) (Nat.le_of_ble_eq_true rfl)) (xcat (Nat.le_of_ble_eq_true rfl)) (fun v8 => ?_)
  refine xr_SJ (y := yX1_overAges) (As := [va_rf v2, va_rf (some v8)]) F (hno _) dX1_reproduction_13 (fX1_overAges_m (xFG F) v2 (some v8)) (Or.inl rfl) q2588 q121 (Or.inl q2586) q2587 (xroom hRm (Nat.le_of_ble_eq_true rfl) (Nat.le_of_ble_eq_true rfl)) ⟨by decide, by decide⟩ n_X1_overAges rfl (xcat (Nat.le_of_ble_eq_true rfl)) (fun v13 => ?_)
  refine xs_l_n [] F dX1_reproduction_16 hnL rfl rfl xk0 xk20 ?_
  refine xr_lload_n 0 F dX1_reproduction_17 rfl ?_
  refine xr_l2d F dX1_reproduction_18 ?_
  refine xr_ldc2d F dX1_reproduction_19 q2593 ?_
  refine xr_ddiv F dX1_reproduction_22 ?_
  exact xr_dret F dX1_reproduction_23
theorem fX0_reproduction_m {l : Launch} {D : xD} {s0 : State} {b0 : Nat} {Γ : Nat → Option Nat} (G : xG l D s0 b0 Γ) (p0 : Option Nat) (p1 : Int32) (p2 : Option Nat) : xMeth l D s0 Γ yX0_reproduction (Cond.codeWith yX0_reproduction cX0_reproduction 4 (some .int) [(0, 8, 11, 25)]) (9) (3124) [va_rf p0, .int p1, va_rf p2] xeI (fX0_reproduction p0 p1 p2) := by
  refine xMeth.of (lv0 := [(0, va_rf p0), (1, .int p1), (2, va_rf p2)]) G (by decide +kernel) (Or.inr ⟨_, rfl⟩) (by simp [lg_sl, xrf_cat, xct_i, xct_l, xct_d, xct_r]) (by simp [lv_args, xrf_cat, xct_i, xct_l, xct_d, xct_r, xrf_some]) (fun x F hnL hRm hmn ht e1 e2 e3 e4 => ?_)
  have htb : x.2.2.2.2.2.2.2.2.2.1.exceptionTable.toList = tableOf [(0, 8, 11, 25)] := ht.2 _ rfl
  unfold fX0_reproduction
  refine xr_aload_n 2 (r := p2) F dX0_reproduction_0 rfl ?_
  refine xr_iconst (0 : Int32) F dX0_reproduction_1 rfl ?_
  refine xr_aload_n 0 (r := p0) F dX0_reproduction_2 rfl ?_
  refine xr_iload_n 1 F dX0_reproduction_3 rfl ?_
  refine xr_VDT (y := yX1_reproduction) (As := [.int p1]) (r := p0) F dX0_reproduction_4 (fun z => fX1_reproduction_m (xFG F) z p1) (Or.inl rfl) (ci := 0) (C := RX1) (T := TX1) rfl q2583 q2580 q2581 q2582 (xroom hRm (Nat.le_of_ble_eq_true rfl) (Nat.le_of_ble_eq_true rfl)) ⟨by decide, by decide⟩ n_X1_reproduction rfl (xcat (Nat.le_of_ble_eq_true rfl)) (fun v4 => ?_) (fun q => ?_)
  · refine xr_dast (r := p2) F dX0_reproduction_7 ?_
    refine xr_goto 14 F dX0_reproduction_8 rfl ?_
    refine xr_iconst (0 : Int32) F dX0_reproduction_14 rfl ?_
    exact xr_iret F dX0_reproduction_15
  · refine xT.catch F htb (tableOf []) ⟨0, 8, 11, 25⟩ (tableOf []) rfl rfl xps0 rfl (Or.inr ⟨by decide, _, q2481, q739⟩) ?_
    refine xs_a_n [] F dX0_reproduction_11 hnL rfl rfl xk0 ?_
    refine xr_iconst (1 : Int32) F dX0_reproduction_12 rfl ?_
    exact xr_iret F dX0_reproduction_13
theorem fX1_generation_m {l : Launch} {D : xD} {s0 : State} {b0 : Nat} {Γ : Nat → Option Nat} (G : xG l D s0 b0 Γ) (a0 : Nat) (p0 : Int32) : xMeth l D s0 Γ yX1_generation (Cond.code yX1_generation cX1_generation 7 (some .double)) (8) (3100) [.ref a0, .int p0] xeD (fX1_generation a0 p0) := by
  refine xMeth.of (lv0 := [(0, va_rf (some a0)), (1, .int p0)]) G (by decide +kernel) (Or.inl rfl) (Nat.le_of_ble_eq_true rfl) rfl (fun x F hnL hRm hmn ht e1 e2 e3 e4 => ?_)
  have hno : ∀ pc, xNo x pc := fun pc z hz => by rw [ht.1 rfl] at hz; cases hz
  unfold fX1_generation
  refine xr_aload_n 0 (r := (some a0)) F dX1_generation_0 rfl ?_
  refine xr_iload_n 1 F dX1_generation_1 rfl ?_
  refine xr_VR (y := yX1_herd) (As := [.int p0]) (r := (some a0)) F (hno _) dX1_generation_2 (fun z => fX1_herd_m (xFG F) z p0) (Or.inl rfl) (ci := 0) (C := RX1) (T := TX1) rfl q2504 q2501 q2503 qs34 (xroom hRm (Nat.le_of_ble_eq_true rfl) (Nat.le_of_ble_eq_true rfl)) ⟨by decide, by decide⟩ n_X1_herd rfl (xcat (Nat.le_of_ble_eq_true rfl)) (fun v2 => ?_)
  refine xs_a_n [] F dX1_generation_5 hnL rfl rfl xk0 ?_
  refine xr_aload_n 0 (r := v2) F dX1_generation_6 rfl ?_
  refine xr_aload_n 0 (r := v2) F dX1_generation_7 rfl ?_
  refine xrN_1 v2 F hmn.2 rfl dX1_generation_8 q4100 (xroom hRm (Nat.le_of_ble_eq_true rfl) (Nat.le_of_ble_eq_true rfl)) (xcat (Nat.le_of_ble_eq_true rfl)) (fun v8 => ?_)
  refine xr_SJ (y := yX1_overAges) (As := [va_rf v2, va_rf (some v8)]) F (hno _) dX1_generation_13 (fX1_overAges_m (xFG F) v2 (some v8)) (Or.inl rfl) q2588 q121 (Or.inl q2586) q2587 (xroom hRm (Nat.le_of_ble_eq_true rfl) (Nat.le_of_ble_eq_true rfl)) ⟨by decide, by decide⟩ n_X1_overAges rfl (xcat (Nat.le_of_ble_eq_true rfl)) (fun v13 => ?_)
  refine xs_l_n [0] F dX1_generation_16 hnL rfl rfl (xk2 rfl (xrf_cat _) xk0) (xk21 rfl xk20) ?_
  refine xr_aload_n 1 (r := v2) F dX1_generation_17 rfl ?_
  refine xr_aload_n 1 (r := v2) F dX1_generation_18 rfl ?_
  refine xrN_2 v2 F hmn.2 rfl dX1_generation_19 q4100 (xroom hRm (Nat.le_of_ble_eq_true rfl) (Nat.le_of_ble_eq_true rfl)) (xcat (Nat.le_of_ble_eq_true rfl)) (fun v19 => ?_)
  refine xr_SJ (y := yX1_overAges) (As := [va_rf v2, va_rf (some v19)]) F (hno _) dX1_generation_24 (fX1_overAges_m (xFG F) v2 (some v19)) (Or.inl rfl) q2588 q121 (Or.inl q2586) q2587 (xroom hRm (Nat.le_of_ble_eq_true rfl) (Nat.le_of_ble_eq_true rfl)) ⟨by decide, by decide⟩ n_X1_overAges rfl (xcat (Nat.le_of_ble_eq_true rfl)) (fun v24 => ?_)
  refine xs_l [0] F dX1_generation_27 hnL rfl rfl (xk1 rfl rfl xk0) (xk21 rfl xk20) ?_
  refine xr_lload_n 1 F dX1_generation_29 rfl ?_
  refine xr_lconst 0 F dX1_generation_30 rfl ?_
  refine xr_lcmp F dX1_generation_31 ?_
  refine xr_if_ne 39 F dX1_generation_32 rfl ?_ ?_
  · refine xr_dconst0 F dX1_generation_35 ?_
    refine xr_goto 45 F dX1_generation_36 rfl ?_
    exact xr_dret F dX1_generation_45
  · refine xr_lload 0 F dX1_generation_39 rfl ?_
    refine xr_l2d F dX1_generation_41 ?_
    refine xr_lload_n 1 F dX1_generation_42 rfl ?_
    refine xr_l2d F dX1_generation_43 ?_
    refine xr_ddiv F dX1_generation_44 ?_
    exact xr_dret F dX1_generation_45
theorem fX0_generation_m {l : Launch} {D : xD} {s0 : State} {b0 : Nat} {Γ : Nat → Option Nat} (G : xG l D s0 b0 Γ) (p0 : Option Nat) (p1 : Int32) (p2 : Option Nat) : xMeth l D s0 Γ yX0_generation (Cond.codeWith yX0_generation cX0_generation 4 (some .int) [(0, 8, 11, 25)]) (9) (3126) [va_rf p0, .int p1, va_rf p2] xeI (fX0_generation p0 p1 p2) := by
  refine xMeth.of (lv0 := [(0, va_rf p0), (1, .int p1), (2, va_rf p2)]) G (by decide +kernel) (Or.inr ⟨_, rfl⟩) (by simp [lg_sl, xrf_cat, xct_i, xct_l, xct_d, xct_r]) (by simp [lv_args, xrf_cat, xct_i, xct_l, xct_d, xct_r, xrf_some]) (fun x F hnL hRm hmn ht e1 e2 e3 e4 => ?_)
  have htb : x.2.2.2.2.2.2.2.2.2.1.exceptionTable.toList = tableOf [(0, 8, 11, 25)] := ht.2 _ rfl
  unfold fX0_generation
  refine xr_aload_n 2 (r := p2) F dX0_generation_0 rfl ?_
  refine xr_iconst (0 : Int32) F dX0_generation_1 rfl ?_
  refine xr_aload_n 0 (r := p0) F dX0_generation_2 rfl ?_
  refine xr_iload_n 1 F dX0_generation_3 rfl ?_
  refine xr_VDT (y := yX1_generation) (As := [.int p1]) (r := p0) F dX0_generation_4 (fun z => fX1_generation_m (xFG F) z p1) (Or.inl rfl) (ci := 0) (C := RX1) (T := TX1) rfl q2600 q2597 q2598 q2599 (xroom hRm (Nat.le_of_ble_eq_true rfl) (Nat.le_of_ble_eq_true rfl)) ⟨by decide, by decide⟩ n_X1_generation rfl (xcat (Nat.le_of_ble_eq_true rfl)) (fun v4 => ?_) (fun q => ?_)
  · refine xr_dast (r := p2) F dX0_generation_7 ?_
    refine xr_goto 14 F dX0_generation_8 rfl ?_
    refine xr_iconst (0 : Int32) F dX0_generation_14 rfl ?_
    exact xr_iret F dX0_generation_15
  · refine xT.catch F htb (tableOf []) ⟨0, 8, 11, 25⟩ (tableOf []) rfl rfl xps0 rfl (Or.inr ⟨by decide, _, q2481, q739⟩) ?_
    refine xs_a_n [] F dX0_generation_11 hnL rfl rfl xk0 ?_
    refine xr_iconst (1 : Int32) F dX0_generation_12 rfl ?_
    exact xr_iret F dX0_generation_13
