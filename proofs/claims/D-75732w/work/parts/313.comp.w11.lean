theorem fX9_isBalanced_m {l : Launch} {D : xD} {s0 : State} {b0 : Nat} {Γ : Nat → Option Nat} (G : xG l D s0 b0 Γ) (a0 : Nat) : xMeth l D s0 Γ yX9_isBalanced (Cond.code yX9_isBalanced cX9_isBalanced 1 (some .boolean)) (1) (12) [.ref a0] xeI (fX9_isBalanced a0) := by
  refine xMeth.of (lv0 := [(0, va_rf (some a0))]) G (by decide +kernel) (Or.inl rfl) (Nat.le_of_ble_eq_true rfl) rfl (fun x F hnL hRm hmn ht e1 e2 e3 e4 => ?_)
  have hno : ∀ pc, xNo x pc := fun pc z hz => by rw [ht.1 rfl] at hz; cases hz
  unfold fX9_isBalanced
  refine xr_aload_n 0 (r := (some a0)) F dX9_isBalanced_0 rfl ?_
  refine xr_gI (r := (some a0)) (ref := "ReserveLedger$Ledger") F dX9_isBalanced_1 (C := RX9) (T := TX9) (N := 7) rfl (by decide) (Or.inl q1958) (Or.inl rfl) (fun v1 => ?_)
  refine xr_aload_n 0 (r := (some a0)) F dX9_isBalanced_4 rfl ?_
  refine xr_gI (r := (some a0)) (ref := "ReserveLedger$Ledger") F dX9_isBalanced_5 (C := RX9) (T := TX9) (N := 7) rfl (by decide) (Or.inl q1960) (Or.inl rfl) (fun v5 => ?_)
  refine xr_iadd F dX9_isBalanced_8 ?_
  refine xr_aload_n 0 (r := (some a0)) F dX9_isBalanced_9 rfl ?_
  refine xr_gI (r := (some a0)) (ref := "ReserveLedger$Ledger") F dX9_isBalanced_10 (C := RX9) (T := TX9) (N := 7) rfl (by decide) (Or.inl q1969) (Or.inl rfl) (fun v10 => ?_)
  refine xr_iadd F dX9_isBalanced_13 ?_
  refine xr_aload_n 0 (r := (some a0)) F dX9_isBalanced_14 rfl ?_
  refine xr_gI (r := (some a0)) (ref := "ReserveLedger$Ledger") F dX9_isBalanced_15 (C := RX9) (T := TX9) (N := 7) rfl (by decide) (Or.inl q1963) (Or.inl rfl) (fun v15 => ?_)
  refine xr_isub F dX9_isBalanced_18 ?_
  refine xr_aload_n 0 (r := (some a0)) F dX9_isBalanced_19 rfl ?_
  refine xr_gI (r := (some a0)) (ref := "ReserveLedger$Ledger") F dX9_isBalanced_20 (C := RX9) (T := TX9) (N := 7) rfl (by decide) (Or.inl q1966) (Or.inl rfl) (fun v20 => ?_)
  refine xr_isub F dX9_isBalanced_23 ?_
  refine xr_aload_n 0 (r := (some a0)) F dX9_isBalanced_24 rfl ?_
  refine xr_gI (r := (some a0)) (ref := "ReserveLedger$Ledger") F dX9_isBalanced_25 (C := RX9) (T := TX9) (N := 7) rfl (by decide) (Or.inl q1972) (Or.inl rfl) (fun v25 => ?_)
  refine xr_icmp_ne 35 F dX9_isBalanced_28 rfl ?_ ?_
  · refine xr_iconst (1 : Int32) F dX9_isBalanced_31 rfl ?_
    refine xr_goto 36 F dX9_isBalanced_32 rfl ?_
    exact xr_zret F dX9_isBalanced_36 rfl
  · refine xr_iconst (0 : Int32) F dX9_isBalanced_35 rfl ?_
    exact xr_zret F dX9_isBalanced_36 rfl
theorem fX1_isBalanced_p97_ok {x : xC} (F : xF x RX1 cX1_isBalanced (some .boolean)) (hnL : xnL x = 6) (hRm : ∃ dc ds, x.2.2.2.1 = { frames := 9, cells := dc, slots := ds, locals := 191 }) (hno : ∀ pc, xNo x pc) (hmn : xmn x = "isBalanced" ∧ xmy x yX1_isBalanced) {k13 : Nat → Option Nat → xM (Int32)} {k51 : Nat → Option Nat → Option Nat → Int32 → Option Nat → xM (Int32)} (hk13 : ∀ (l0 : Nat) (l1 : Option Nat), xI x xeI 13 [(0, va_rf (some l0)), (1, va_rf l1)] [] (k13 l0 l1)) (hk51 : ∀ (l0 : Nat) (l1 : Option Nat) (l2 : Option Nat) (l3 : Int32) (l4 : Option Nat), xI x xeI 51 [(0, va_rf (some l0)), (1, va_rf l1), (2, va_rf l2), (3, .int l3), (4, va_rf l4)] [] (k51 l0 l1 l2 l3 l4)) (l0 : Nat) (l1 : Option Nat) (l2 : Option Nat) (l4 : Option Nat) (l5 : Option Nat) : xI x xeI 97 [(0, va_rf (some l0)), (1, va_rf l1), (2, va_rf l2), (4, va_rf l4), (5, va_rf l5)] [] (fX1_isBalanced_p97 k13 k51 l0 l1 l2 l4 l5) := by
  unfold fX1_isBalanced_p97
  refine xr_aload 4 (r := l5) F dX1_isBalanced_97 rfl ?_
  refine xr_gI (r := l5) (ref := "ReserveLedger$Ledger") F dX1_isBalanced_99 (C := RX9) (T := TX9) (N := 7) rfl (by decide) (Or.inr ⟨_, q1974⟩) (Or.inl rfl) (fun v99 => ?_)
  refine xs_i_n [0, 1, 2, 3] F dX1_isBalanced_102 hnL rfl rfl (xk1 rfl rfl (xk1 rfl rfl (xk2 rfl (xrf_cat _) (xk1 rfl rfl xk0)))) ?_
  refine xr_goto 51 F dX1_isBalanced_103 rfl ?_
  exact xI.sub [1, 2, 3, 0, 4] rfl (hk51 l0 l1 l2 v99 l4)
theorem fX1_isBalanced_p150_ok {x : xC} (F : xF x RX1 cX1_isBalanced (some .boolean)) (hnL : xnL x = 6) (hRm : ∃ dc ds, x.2.2.2.1 = { frames := 9, cells := dc, slots := ds, locals := 191 }) (hno : ∀ pc, xNo x pc) (hmn : xmn x = "isBalanced" ∧ xmy x yX1_isBalanced) {k13 : Nat → Option Nat → xM (Int32)} (hk13 : ∀ (l0 : Nat) (l1 : Option Nat), xI x xeI 13 [(0, va_rf (some l0)), (1, va_rf l1)] [] (k13 l0 l1)) (l0 : Nat) (l1 : Option Nat) : xI x xeI 150 [(0, va_rf (some l0)), (1, va_rf l1)] [] (fX1_isBalanced_p150 k13 l0 l1) := by
  unfold fX1_isBalanced_p150
  refine xr_goto 13 F dX1_isBalanced_150 rfl ?_
  exact xI.sub [0, 1] rfl (hk13 l0 l1)
theorem fX1_isBalanced_p51_ok {x : xC} (F : xF x RX1 cX1_isBalanced (some .boolean)) (hnL : xnL x = 6) (hRm : ∃ dc ds, x.2.2.2.1 = { frames := 9, cells := dc, slots := ds, locals := 191 }) (hno : ∀ pc, xNo x pc) (hmn : xmn x = "isBalanced" ∧ xmy x yX1_isBalanced) {k13 : Nat → Option Nat → xM (Int32)} (hk13 : ∀ (l0 : Nat) (l1 : Option Nat), xI x xeI 13 [(0, va_rf (some l0)), (1, va_rf l1)] [] (k13 l0 l1)) : ∀ (n : Nat) (l0 : Nat) (l1 : Option Nat) (l2 : Option Nat) (l3 : Int32) (l4 : Option Nat), xI x xeI 51 [(0, va_rf (some l0)), (1, va_rf l1), (2, va_rf l2), (3, .int l3), (4, va_rf l4)] [] (fX1_isBalanced_p51 k13 n l0 l1 l2 l3 l4) := by
  intro n
  induction n with
  | zero => intro l0 l1 l2 l3 l4; exact xI.stuck
  | succ n ih =>
    intro l0 l1 l2 l3 l4
    unfold fX1_isBalanced_p51
    refine xr_aload 4 (r := l4) F dX1_isBalanced_51 rfl ?_
    refine xr_FI (x0 := ⟨"java/util/Iterator", "hasNext", "()Z"⟩) (y := yJ38_hasNext) (As := []) (r := l4) F (hno _) dX1_isBalanced_53 (fun z => fJ38_hasNext__J43_m (xFG F) z) rfl (ci := 14) (C := RJ43) (T := TJ43) rfl q878 q824 q876 q880 q826 q825 q877 q881 q879 (xroom hRm (Nat.le_of_ble_eq_true rfl) (Nat.le_of_ble_eq_true rfl)) ⟨by decide, by decide⟩ n_J38_hasNext rfl (xcat (Nat.le_of_ble_eq_true rfl)) (fun v53 => ?_)
    refine xr_if_eq 106 F dX1_isBalanced_58 rfl ?_ ?_
    · refine xr_aload_n 2 (r := l2) F dX1_isBalanced_106 rfl ?_
      refine xr_aload_n 0 (r := (some l0)) F dX1_isBalanced_107 rfl ?_
      refine xr_gR (r := (some l0)) (ref := "ReserveLedger") F dX1_isBalanced_108 (C := RX1) (T := TX1) (N := 7) rfl (by decide) (Or.inl q614) (Or.inl rfl) (fun v108 => ?_)
      refine xr_gI (r := v108) (ref := "ReserveLedger$State") F dX1_isBalanced_111 (C := RX2) (T := TX2) (N := 5) rfl (by decide) (Or.inr ⟨_, q589⟩) (Or.inl rfl) (fun v111 => ?_)
      refine xr_aload_n 0 (r := (some l0)) F dX1_isBalanced_114 rfl ?_
      refine xr_gR (r := (some l0)) (ref := "ReserveLedger") F dX1_isBalanced_115 (C := RX1) (T := TX1) (N := 7) rfl (by decide) (Or.inl q614) (Or.inl rfl) (fun v115 => ?_)
      refine xr_gI (r := v115) (ref := "ReserveLedger$State") F dX1_isBalanced_118 (C := RX2) (T := TX2) (N := 5) rfl (by decide) (Or.inr ⟨_, q589⟩) (Or.inl rfl) (fun v118 => ?_)
      refine xr_VR (y := yX6_ledger) (As := [.int v111, .int v118]) (r := l2) F (hno _) dX1_isBalanced_121 (fun z => fX6_ledger_m (xFG F) z v111 v118) (Or.inl rfl) (ci := 19) (C := RX6) (T := TX6) rfl q1301 q1298 q1299 q1300 (xroom hRm (Nat.le_of_ble_eq_true rfl) (Nat.le_of_ble_eq_true rfl)) ⟨by decide, by decide⟩ n_X6_ledger rfl (xcat (Nat.le_of_ble_eq_true rfl)) (fun v121 => ?_)
      refine xs_a [0, 1, 3] F dX1_isBalanced_124 hnL rfl rfl (xk1 rfl rfl (xk1 rfl rfl (xk2 rfl rfl xk0))) ?_
      refine xr_aload 0 (r := v121) F dX1_isBalanced_126 rfl ?_
      refine xr_VI (y := yX9_isBalanced) (As := []) (r := v121) F (hno _) dX1_isBalanced_128 (fun z => fX9_isBalanced_m (xFG F) z) (Or.inl rfl) (ci := 22) (C := RX9) (T := TX9) rfl q1297 q1294 q1295 q1296 (xroom hRm (Nat.le_of_ble_eq_true rfl) (Nat.le_of_ble_eq_true rfl)) ⟨by decide, by decide⟩ n_X9_isBalanced rfl (xcat (Nat.le_of_ble_eq_true rfl)) (fun v128 => ?_)
      refine xr_if_eq 148 F dX1_isBalanced_131 rfl ?_ ?_
      · refine xr_iconst (0 : Int32) F dX1_isBalanced_148 rfl ?_
        exact xr_zret F dX1_isBalanced_149 rfl
      · refine xr_iload_n 3 F dX1_isBalanced_134 rfl ?_
        refine xr_iconst (-1 : Int32) F dX1_isBalanced_135 rfl ?_
        refine xr_icmp_eq 150 F dX1_isBalanced_136 rfl ?_ ?_
        · exact xI.sub [1, 2] rfl (fX1_isBalanced_p150_ok F hnL hRm hno hmn hk13 l0 l1)
        · refine xr_aload 0 (r := v121) F dX1_isBalanced_139 rfl ?_
          refine xr_gI (r := v121) (ref := "ReserveLedger$Ledger") F dX1_isBalanced_141 (C := RX9) (T := TX9) (N := 7) rfl (by decide) (Or.inr ⟨_, q1959⟩) (Or.inl rfl) (fun v141 => ?_)
          refine xr_iload_n 3 F dX1_isBalanced_144 rfl ?_
          refine xr_icmp_eq 150 F dX1_isBalanced_145 rfl ?_ ?_
          · exact xI.sub [1, 2] rfl (fX1_isBalanced_p150_ok F hnL hRm hno hmn hk13 l0 l1)
          · refine xr_iconst (0 : Int32) F dX1_isBalanced_148 rfl ?_
            exact xr_zret F dX1_isBalanced_149 rfl
    · refine xr_aload 4 (r := l4) F dX1_isBalanced_61 rfl ?_
      refine xr_FR (x0 := ⟨"java/util/Iterator", "next", "()Ljava/lang/Object;"⟩) (y := yJ43_next) (As := []) (r := l4) F (hno _) dX1_isBalanced_63 (fun z => fJ43_next_m (xFG F) z) rfl (ci := 14) (C := RJ43) (T := TJ43) rfl q1141 q883 q1139 q1137 q885 q884 q1140 q1138 q879 (xroom hRm (Nat.le_of_ble_eq_true rfl) (Nat.le_of_ble_eq_true rfl)) ⟨by decide, by decide⟩ n_J43_next rfl (xcat (Nat.le_of_ble_eq_true rfl)) (fun v63 => ?_)
      refine xr_castE (ci := 22) (r := v63) F dX1_isBalanced_68 q1293 rfl ?_
      refine xs_a [0, 1, 2, 3, 4] F dX1_isBalanced_71 hnL rfl rfl (xk1 rfl rfl (xk1 rfl rfl (xk1 rfl rfl (xk1 rfl rfl (xk2 rfl (xrf_cat _) xk0))))) ?_
      refine xr_aload 0 (r := v63) F dX1_isBalanced_73 rfl ?_
      refine xr_VI (y := yX9_isBalanced) (As := []) (r := v63) F (hno _) dX1_isBalanced_75 (fun z => fX9_isBalanced_m (xFG F) z) (Or.inl rfl) (ci := 22) (C := RX9) (T := TX9) rfl q1297 q1294 q1295 q1296 (xroom hRm (Nat.le_of_ble_eq_true rfl) (Nat.le_of_ble_eq_true rfl)) ⟨by decide, by decide⟩ n_X9_isBalanced rfl (xcat (Nat.le_of_ble_eq_true rfl)) (fun v75 => ?_)
      refine xr_if_eq 95 F dX1_isBalanced_78 rfl ?_ ?_
      · refine xr_iconst (0 : Int32) F dX1_isBalanced_95 rfl ?_
        exact xr_zret F dX1_isBalanced_96 rfl
      · refine xr_iload_n 4 F dX1_isBalanced_81 rfl ?_
        refine xr_iconst (-1 : Int32) F dX1_isBalanced_82 rfl ?_
        refine xr_icmp_eq 97 F dX1_isBalanced_83 rfl ?_ ?_
        · exact xI.sub [1, 2, 3, 5, 0] rfl (fX1_isBalanced_p97_ok F hnL hRm hno hmn hk13 ih l0 l1 l2 l4 v63)
        · refine xr_aload 0 (r := v63) F dX1_isBalanced_86 rfl ?_
          refine xr_gI (r := v63) (ref := "ReserveLedger$Ledger") F dX1_isBalanced_88 (C := RX9) (T := TX9) (N := 7) rfl (by decide) (Or.inr ⟨_, q1959⟩) (Or.inl rfl) (fun v88 => ?_)
          refine xr_iload_n 4 F dX1_isBalanced_91 rfl ?_
          refine xr_icmp_eq 97 F dX1_isBalanced_92 rfl ?_ ?_
          · exact xI.sub [1, 2, 3, 5, 0] rfl (fX1_isBalanced_p97_ok F hnL hRm hno hmn hk13 ih l0 l1 l2 l4 v63)
          · refine xr_iconst (0 : Int32) F dX1_isBalanced_95 rfl ?_
            exact xr_zret F dX1_isBalanced_96 rfl
theorem fX1_isBalanced_p13_ok {x : xC} (F : xF x RX1 cX1_isBalanced (some .boolean)) (hnL : xnL x = 6) (hRm : ∃ dc ds, x.2.2.2.1 = { frames := 9, cells := dc, slots := ds, locals := 191 }) (hno : ∀ pc, xNo x pc) (hmn : xmn x = "isBalanced" ∧ xmy x yX1_isBalanced) : ∀ (n : Nat) (l0 : Nat) (l1 : Option Nat), xI x xeI 13 [(0, va_rf (some l0)), (1, va_rf l1)] [] (fX1_isBalanced_p13 n l0 l1) := by
  intro n
  induction n with
  | zero => intro l0 l1; exact xI.stuck
  | succ n ih =>
    intro l0 l1
    unfold fX1_isBalanced_p13
    refine xr_aload_n 1 (r := l1) F dX1_isBalanced_13 rfl ?_
    refine xr_FI (x0 := ⟨"java/util/Iterator", "hasNext", "()Z"⟩) (y := yJ20_hasNext) (As := []) (r := l1) F (hno _) dX1_isBalanced_14 (fun z => fJ20_hasNext_m (xFG F) z) rfl (ci := 7) (C := RJ20) (T := TJ20) rfl q853 q824 q851 q849 q826 q825 q852 q850 q848 (xroom hRm (Nat.le_of_ble_eq_true rfl) (Nat.le_of_ble_eq_true rfl)) ⟨by decide, by decide⟩ n_J20_hasNext rfl (xcat (Nat.le_of_ble_eq_true rfl)) (fun v14 => ?_)
    refine xr_if_eq 153 F dX1_isBalanced_19 rfl ?_ ?_
    · refine xr_iconst (1 : Int32) F dX1_isBalanced_153 rfl ?_
      exact xr_zret F dX1_isBalanced_154 rfl
    · refine xr_aload_n 1 (r := l1) F dX1_isBalanced_22 rfl ?_
      refine xr_FR (x0 := ⟨"java/util/Iterator", "next", "()Ljava/lang/Object;"⟩) (y := yJ20_next) (As := []) (r := l1) F (hno _) dX1_isBalanced_23 (fun z => fJ20_next_m (xFG F) z) rfl (ci := 7) (C := RJ20) (T := TJ20) rfl q1075 q883 q1073 q1071 q885 q884 q1074 q1072 q848 (xroom hRm (Nat.le_of_ble_eq_true rfl) (Nat.le_of_ble_eq_true rfl)) ⟨by decide, by decide⟩ n_J20_next rfl (xcat (Nat.le_of_ble_eq_true rfl)) (fun v23 => ?_)
      refine xr_castE (ci := 19) (r := v23) F dX1_isBalanced_28 q1145 rfl ?_
      refine xs_a_n [0, 1] F dX1_isBalanced_31 hnL rfl rfl (xk1 rfl rfl (xk2 rfl (xrf_cat _) xk0)) ?_
      refine xr_iconst (-1 : Int32) F dX1_isBalanced_32 rfl ?_
      refine xr_letI (fun x3_33 => ?_)
      refine xs_i_n [0, 1, 2] F dX1_isBalanced_33 hnL rfl rfl (xk2 rfl (xrf_cat _) (xk1 rfl rfl (xk1 rfl rfl xk0))) ?_
      refine xr_aload_n 1 (r := v23) F dX1_isBalanced_34 rfl ?_
      refine xr_gR (r := v23) (ref := "ReserveLedger$Herd") F dX1_isBalanced_35 (C := RX6) (T := TX6) (N := 8) rfl (by decide) (Or.inr ⟨_, q2037⟩) (Or.inl rfl) (fun v35 => ?_)
      refine xr_gR (r := v35) (ref := "ReserveLedger$Species") F dX1_isBalanced_38 (C := RX7) (T := TX7) (N := 6) rfl (by decide) (Or.inr ⟨_, q1935⟩) (Or.inl rfl) (fun v38 => ?_)
      refine xr_VR (y := yJ29_values) (As := []) (r := v38) F (hno _) dX1_isBalanced_41 (fun z => fJ29_values_m (xFG F) z) (Or.inl rfl) (ci := 16) (C := RJ29) (T := TJ29) rfl q1161 q1158 q1159 q1160 (xroom hRm (Nat.le_of_ble_eq_true rfl) (Nat.le_of_ble_eq_true rfl)) ⟨by decide, by decide⟩ n_J29_values rfl (xcat (Nat.le_of_ble_eq_true rfl)) (fun v41 => ?_)
      refine xI.alt2 (Kp := ∀ (v44 : Option Nat), xI x xeI 49 [(3, .int x3_33), (2, va_rf v23), (0, va_rf (some l0)), (1, va_rf l1)] [va_rf v44] _) ?_ (fun hK => xr_FR (x0 := ⟨"java/util/Collection", "iterator", "()Ljava/util/Iterator;"⟩) (y := yJ2_iterator) (As := []) (r := v41) F (hno _) dX1_isBalanced_44 (fun z => fJ2_iterator_m (xFG F) z) rfl (ci := 2) (C := RJ2) (T := TJ2) rfl q693 q1173 q691 q1209 q1175 q1174 q692 q690 q1208 (xroom hRm (Nat.le_of_ble_eq_true rfl) (Nat.le_of_ble_eq_true rfl)) ⟨by decide, by decide⟩ n_J2_iterator rfl (xcat (Nat.le_of_ble_eq_true rfl)) hK) (fun hK => (xI.alt2 hK (fun hK => xr_FR (x0 := ⟨"java/util/Collection", "iterator", "()Ljava/util/Iterator;"⟩) (y := yJ18_iterator) (As := []) (r := v41) F (hno _) dX1_isBalanced_44 (fun z => fJ18_iterator__J19_m (xFG F) z) rfl (ci := 6) (C := RJ19) (T := TJ19) rfl q720 q1173 q718 q1211 q1175 q1174 q719 q717 q1210 (xroom hRm (Nat.le_of_ble_eq_true rfl) (Nat.le_of_ble_eq_true rfl)) ⟨by decide, by decide⟩ n_J18_iterator rfl (xcat (Nat.le_of_ble_eq_true rfl)) hK) (fun hK => (xI.alt2 hK (fun hK => xr_FR (x0 := ⟨"java/util/Collection", "iterator", "()Ljava/util/Iterator;"⟩) (y := yJ40_iterator) (As := []) (r := v41) F (hno _) dX1_isBalanced_44 (fun z => fJ40_iterator_m (xFG F) z) rfl (ci := 11) (C := RJ40) (T := TJ40) rfl q1280 q1173 q1278 q1276 q1175 q1174 q1279 q1277 q1275 (xroom hRm (Nat.le_of_ble_eq_true rfl) (Nat.le_of_ble_eq_true rfl)) ⟨by decide, by decide⟩ n_J40_iterator rfl (xcat (Nat.le_of_ble_eq_true rfl)) hK) (fun hK => (xI.alt2 hK (fun hK => xr_FR (x0 := ⟨"java/util/Collection", "iterator", "()Ljava/util/Iterator;"⟩) (y := yJ27_iterator) (As := []) (r := v41) F (hno _) dX1_isBalanced_44 (fun z => fJ27_iterator_m (xFG F) z) rfl (ci := 23) (C := RJ27) (T := TJ27) rfl q1181 q1173 q1179 q1177 q1175 q1174 q1180 q1178 q1176 (xroom hRm (Nat.le_of_ble_eq_true rfl) (Nat.le_of_ble_eq_true rfl)) ⟨by decide, by decide⟩ n_J27_iterator rfl (xcat (Nat.le_of_ble_eq_true rfl)) hK) (fun hK => (xI.alt2 hK (fun hK => xr_FR (x0 := ⟨"java/util/Collection", "iterator", "()Ljava/util/Iterator;"⟩) (y := yJ37_iterator) (As := []) (r := v41) F (hno _) dX1_isBalanced_44 (fun z => fJ37_iterator_m (xFG F) z) rfl (ci := 32) (C := RJ37) (T := TJ37) rfl q1248 q1173 q1246 q1244 q1175 q1174 q1247 q1245 q1243 (xroom hRm (Nat.le_of_ble_eq_true rfl) (Nat.le_of_ble_eq_true rfl)) ⟨by decide, by decide⟩ n_J37_iterator rfl (xcat (Nat.le_of_ble_eq_true rfl)) hK) (fun hK => (xr_FR (x0 := ⟨"java/util/Collection", "iterator", "()Ljava/util/Iterator;"⟩) (y := yJ45_iterator) (As := []) (r := v41) F (hno _) dX1_isBalanced_44 (fun z => fJ45_iterator_m (xFG F) z) rfl (ci := 33) (C := RJ45) (T := TJ45) rfl q1217 q1173 q1215 q1213 q1175 q1174 q1216 q1214 q1212 (xroom hRm (Nat.le_of_ble_eq_true rfl) (Nat.le_of_ble_eq_true rfl)) ⟨by decide, by decide⟩ n_J45_iterator rfl (xcat (Nat.le_of_ble_eq_true rfl)) hK))))))))))
      intro v44
      refine xs_a [0, 1, 2, 3] F dX1_isBalanced_49 hnL rfl rfl (xk2 rfl rfl (xk1 rfl rfl (xk1 rfl rfl (xk1 rfl rfl xk0)))) ?_
      exact xI.sub [3, 4, 2, 1, 0] rfl (fX1_isBalanced_p51_ok F hnL hRm hno hmn ih xFU l0 l1 v23 x3_33 v44)
theorem fX1_isBalanced_m {l : Launch} {D : xD} {s0 : State} {b0 : Nat} {Γ : Nat → Option Nat} (G : xG l D s0 b0 Γ) (a0 : Nat) : xMeth l D s0 Γ yX1_isBalanced (Cond.code yX1_isBalanced cX1_isBalanced 6 (some .boolean)) (9) (191) [.ref a0] xeI (fX1_isBalanced a0) := by
  refine xMeth.of (lv0 := [(0, va_rf (some a0))]) G (by decide +kernel) (Or.inl rfl) (Nat.le_of_ble_eq_true rfl) rfl (fun x F hnL hRm hmn ht e1 e2 e3 e4 => ?_)
  have hno : ∀ pc, xNo x pc := fun pc z hz => by rw [ht.1 rfl] at hz; cases hz
  unfold fX1_isBalanced
  refine xr_aload_n 0 (r := (some a0)) F dX1_isBalanced_0 rfl ?_
  refine xr_gR (r := (some a0)) (ref := "ReserveLedger") F dX1_isBalanced_1 (C := RX1) (T := TX1) (N := 7) rfl (by decide) (Or.inl q614) (Or.inl rfl) (fun v1 => ?_)
  refine xr_gR (r := v1) (ref := "ReserveLedger$State") F dX1_isBalanced_4 (C := RX2) (T := TX2) (N := 5) rfl (by decide) (Or.inr ⟨_, q584⟩) (Or.inl rfl) (fun v4 => ?_)
  refine xr_FR (x0 := ⟨"java/util/List", "iterator", "()Ljava/util/Iterator;"⟩) (y := yJ2_iterator) (As := []) (r := v4) F (hno _) dX1_isBalanced_7 (fun z => fJ2_iterator_m (xFG F) z) rfl (ci := 2) (C := RJ2) (T := TJ2) rfl q693 q685 q691 q689 q687 q686 q692 q690 q688 (xroom hRm (Nat.le_of_ble_eq_true rfl) (Nat.le_of_ble_eq_true rfl)) ⟨by decide, by decide⟩ n_J2_iterator rfl (xcat (Nat.le_of_ble_eq_true rfl)) (fun v7 => ?_)
  refine xs_a_n [0] F dX1_isBalanced_12 hnL rfl rfl (xk2 rfl (xrf_cat _) xk0) ?_
  exact xI.sub [1, 0] rfl (fX1_isBalanced_p13_ok F hnL hRm hno hmn xFU a0 v7)
theorem fJ29_fixAfterDeletion_p183_ok {x : xC} (F : xF x RJ29 cJ29_fixAfterDeletion none) (hnL : xnL x = 3) (hRm : ∃ dc ds, x.2.2.2.1 = { frames := 2, cells := dc, slots := ds, locals := 34 }) (hno : ∀ pc, xNo x pc) (hmn : xmn x = "fixAfterDeletion" ∧ xmy x yJ29_fixAfterDeletion) {k0 : Nat → Option Nat → xM (Unit)} (hk0 : ∀ (l0 : Nat) (l1 : Option Nat), xI x xeV 0 [(0, va_rf (some l0)), (1, va_rf l1)] [] (k0 l0 l1)) (l0 : Nat) (l1 : Option Nat) : xI x xeV 183 [(0, va_rf (some l0)), (1, va_rf l1)] [] (fJ29_fixAfterDeletion_p183 k0 l0 l1) := by
  unfold fJ29_fixAfterDeletion_p183
  refine xr_goto 0 F dJ29_fixAfterDeletion_183 rfl ?_
  exact xI.sub [0, 1] rfl (hk0 l0 l1)
theorem fJ29_fixAfterDeletion_p143_ok {x : xC} (F : xF x RJ29 cJ29_fixAfterDeletion none) (hnL : xnL x = 3) (hRm : ∃ dc ds, x.2.2.2.1 = { frames := 2, cells := dc, slots := ds, locals := 34 }) (hno : ∀ pc, xNo x pc) (hmn : xmn x = "fixAfterDeletion" ∧ xmy x yJ29_fixAfterDeletion) {k0 : Nat → Option Nat → xM (Unit)} (hk0 : ∀ (l0 : Nat) (l1 : Option Nat), xI x xeV 0 [(0, va_rf (some l0)), (1, va_rf l1)] [] (k0 l0 l1)) (l0 : Nat) (l1 : Option Nat) (l2 : Option Nat) : xI x xeV 143 [(0, va_rf (some l0)), (1, va_rf l1), (2, va_rf l2)] [] (fJ29_fixAfterDeletion_p143 k0 l0 l1 l2) := by
  unfold fJ29_fixAfterDeletion_p143
  refine xr_aload_n 2 (r := l2) F dJ29_fixAfterDeletion_143 rfl ?_
  refine xr_aload_n 1 (r := l1) F dJ29_fixAfterDeletion_144 rfl ?_
  refine xr_SR (y := yJ29_parentOf) (As := [va_rf l1]) F (hno _) dJ29_fixAfterDeletion_145 (fJ29_parentOf_m (xFG F) l1) (Or.inl rfl) q1695 q157 (Or.inl q1693) q1694 (xroom hRm (Nat.le_of_ble_eq_true rfl) (Nat.le_of_ble_eq_true rfl)) ⟨by decide, by decide⟩ n_J29_parentOf rfl (xcat (Nat.le_of_ble_eq_true rfl)) (fun v145 => ?_)
  refine xr_SI (y := yJ29_colorOf) (As := [va_rf v145]) F (hno _) dJ29_fixAfterDeletion_148 (fJ29_colorOf_m (xFG F) v145) (Or.inl rfl) q1692 q157 (Or.inl q1690) q1691 (xroom hRm (Nat.le_of_ble_eq_true rfl) (Nat.le_of_ble_eq_true rfl)) ⟨by decide, by decide⟩ n_J29_colorOf rfl (xcat (Nat.le_of_ble_eq_true rfl)) (fun v148 => ?_)
  refine xr_SV (y := yJ29_setColor) (As := [va_rf l2, .int v148]) F (hno _) dJ29_fixAfterDeletion_151 (fJ29_setColor_m (xFG F) l2 v148) (Or.inl rfl) q1704 q157 (Or.inl q1702) q1703 (xroom hRm (Nat.le_of_ble_eq_true rfl) (Nat.le_of_ble_eq_true rfl)) ⟨by decide, by decide⟩ n_J29_setColor rfl (xcat (Nat.le_of_ble_eq_true rfl)) (fun _ => ?_)
  refine xr_aload_n 1 (r := l1) F dJ29_fixAfterDeletion_154 rfl ?_
  refine xr_SR (y := yJ29_parentOf) (As := [va_rf l1]) F (hno _) dJ29_fixAfterDeletion_155 (fJ29_parentOf_m (xFG F) l1) (Or.inl rfl) q1695 q157 (Or.inl q1693) q1694 (xroom hRm (Nat.le_of_ble_eq_true rfl) (Nat.le_of_ble_eq_true rfl)) ⟨by decide, by decide⟩ n_J29_parentOf rfl (xcat (Nat.le_of_ble_eq_true rfl)) (fun v155 => ?_)
  refine xr_iconst (1 : Int32) F dJ29_fixAfterDeletion_158 rfl ?_
  refine xr_SV (y := yJ29_setColor) (As := [va_rf v155, .int (1 : Int32)]) F (hno _) dJ29_fixAfterDeletion_159 (fJ29_setColor_m (xFG F) v155 (1 : Int32)) (Or.inl rfl) q1704 q157 (Or.inl q1702) q1703 (xroom hRm (Nat.le_of_ble_eq_true rfl) (Nat.le_of_ble_eq_true rfl)) ⟨by decide, by decide⟩ n_J29_setColor rfl (xcat (Nat.le_of_ble_eq_true rfl)) (fun _ => ?_)
  refine xr_aload_n 2 (r := l2) F dJ29_fixAfterDeletion_162 rfl ?_
  refine xr_SR (y := yJ29_rightOf) (As := [va_rf l2]) F (hno _) dJ29_fixAfterDeletion_163 (fJ29_rightOf_m (xFG F) l2) (Or.inl rfl) q1701 q157 (Or.inl q1699) q1700 (xroom hRm (Nat.le_of_ble_eq_true rfl) (Nat.le_of_ble_eq_true rfl)) ⟨by decide, by decide⟩ n_J29_rightOf rfl (xcat (Nat.le_of_ble_eq_true rfl)) (fun v163 => ?_)
  refine xr_iconst (1 : Int32) F dJ29_fixAfterDeletion_166 rfl ?_
  refine xr_SV (y := yJ29_setColor) (As := [va_rf v163, .int (1 : Int32)]) F (hno _) dJ29_fixAfterDeletion_167 (fJ29_setColor_m (xFG F) v163 (1 : Int32)) (Or.inl rfl) q1704 q157 (Or.inl q1702) q1703 (xroom hRm (Nat.le_of_ble_eq_true rfl) (Nat.le_of_ble_eq_true rfl)) ⟨by decide, by decide⟩ n_J29_setColor rfl (xcat (Nat.le_of_ble_eq_true rfl)) (fun _ => ?_)
  refine xr_aload_n 0 (r := (some l0)) F dJ29_fixAfterDeletion_170 rfl ?_
  refine xr_aload_n 1 (r := l1) F dJ29_fixAfterDeletion_171 rfl ?_
  refine xr_SR (y := yJ29_parentOf) (As := [va_rf l1]) F (hno _) dJ29_fixAfterDeletion_172 (fJ29_parentOf_m (xFG F) l1) (Or.inl rfl) q1695 q157 (Or.inl q1693) q1694 (xroom hRm (Nat.le_of_ble_eq_true rfl) (Nat.le_of_ble_eq_true rfl)) ⟨by decide, by decide⟩ n_J29_parentOf rfl (xcat (Nat.le_of_ble_eq_true rfl)) (fun v172 => ?_)
  refine xr_VV (y := yJ29_rotateLeft) (As := [va_rf v172]) (r := (some l0)) F (hno _) dJ29_fixAfterDeletion_175 (fun z => fJ29_rotateLeft_m (xFG F) z v172) (Or.inl rfl) (ci := 16) (C := RJ29) (T := TJ29) rfl q1708 q1705 q1707 qs12 (xroom hRm (Nat.le_of_ble_eq_true rfl) (Nat.le_of_ble_eq_true rfl)) ⟨by decide, by decide⟩ n_J29_rotateLeft rfl (xcat (Nat.le_of_ble_eq_true rfl)) (fun _ => ?_)
  refine xr_aload_n 0 (r := (some l0)) F dJ29_fixAfterDeletion_178 rfl ?_
  refine xr_gR (r := (some l0)) (ref := "java/util/TreeMap") F dJ29_fixAfterDeletion_179 (C := RJ29) (T := TJ29) (N := 9) rfl (by decide) (Or.inl q1888) (Or.inl rfl) (fun v179 => ?_)
  refine xs_a_n [0] F dJ29_fixAfterDeletion_182 hnL rfl rfl (xk2 rfl (xrf_cat _) xk0) ?_
  exact xI.sub [1, 0] rfl (fJ29_fixAfterDeletion_p183_ok F hnL hRm hno hmn hk0 l0 v179)
theorem fJ29_fixAfterDeletion_p106_ok {x : xC} (F : xF x RJ29 cJ29_fixAfterDeletion none) (hnL : xnL x = 3) (hRm : ∃ dc ds, x.2.2.2.1 = { frames := 2, cells := dc, slots := ds, locals := 34 }) (hno : ∀ pc, xNo x pc) (hmn : xmn x = "fixAfterDeletion" ∧ xmy x yJ29_fixAfterDeletion) {k0 : Nat → Option Nat → xM (Unit)} (hk0 : ∀ (l0 : Nat) (l1 : Option Nat), xI x xeV 0 [(0, va_rf (some l0)), (1, va_rf l1)] [] (k0 l0 l1)) (l0 : Nat) (l1 : Option Nat) (l2 : Option Nat) : xI x xeV 106 [(0, va_rf (some l0)), (1, va_rf l1), (2, va_rf l2)] [] (fJ29_fixAfterDeletion_p106 k0 l0 l1 l2) := by
  unfold fJ29_fixAfterDeletion_p106
  refine xr_aload_n 2 (r := l2) F dJ29_fixAfterDeletion_106 rfl ?_
  refine xr_SR (y := yJ29_rightOf) (As := [va_rf l2]) F (hno _) dJ29_fixAfterDeletion_107 (fJ29_rightOf_m (xFG F) l2) (Or.inl rfl) q1701 q157 (Or.inl q1699) q1700 (xroom hRm (Nat.le_of_ble_eq_true rfl) (Nat.le_of_ble_eq_true rfl)) ⟨by decide, by decide⟩ n_J29_rightOf rfl (xcat (Nat.le_of_ble_eq_true rfl)) (fun v107 => ?_)
  refine xr_SI (y := yJ29_colorOf) (As := [va_rf v107]) F (hno _) dJ29_fixAfterDeletion_110 (fJ29_colorOf_m (xFG F) v107) (Or.inl rfl) q1692 q157 (Or.inl q1690) q1691 (xroom hRm (Nat.le_of_ble_eq_true rfl) (Nat.le_of_ble_eq_true rfl)) ⟨by decide, by decide⟩ n_J29_colorOf rfl (xcat (Nat.le_of_ble_eq_true rfl)) (fun v110 => ?_)
  refine xr_iconst (1 : Int32) F dJ29_fixAfterDeletion_113 rfl ?_
  refine xr_icmp_ne 143 F dJ29_fixAfterDeletion_114 rfl ?_ ?_
  · refine xr_aload_n 2 (r := l2) F dJ29_fixAfterDeletion_117 rfl ?_
    refine xr_SR (y := yJ29_leftOf) (As := [va_rf l2]) F (hno _) dJ29_fixAfterDeletion_118 (fJ29_leftOf_m (xFG F) l2) (Or.inl rfl) q1698 q157 (Or.inl q1696) q1697 (xroom hRm (Nat.le_of_ble_eq_true rfl) (Nat.le_of_ble_eq_true rfl)) ⟨by decide, by decide⟩ n_J29_leftOf rfl (xcat (Nat.le_of_ble_eq_true rfl)) (fun v118 => ?_)
    refine xr_iconst (1 : Int32) F dJ29_fixAfterDeletion_121 rfl ?_
    refine xr_SV (y := yJ29_setColor) (As := [va_rf v118, .int (1 : Int32)]) F (hno _) dJ29_fixAfterDeletion_122 (fJ29_setColor_m (xFG F) v118 (1 : Int32)) (Or.inl rfl) q1704 q157 (Or.inl q1702) q1703 (xroom hRm (Nat.le_of_ble_eq_true rfl) (Nat.le_of_ble_eq_true rfl)) ⟨by decide, by decide⟩ n_J29_setColor rfl (xcat (Nat.le_of_ble_eq_true rfl)) (fun _ => ?_)
    refine xr_aload_n 2 (r := l2) F dJ29_fixAfterDeletion_125 rfl ?_
    refine xr_iconst (0 : Int32) F dJ29_fixAfterDeletion_126 rfl ?_
    refine xr_SV (y := yJ29_setColor) (As := [va_rf l2, .int (0 : Int32)]) F (hno _) dJ29_fixAfterDeletion_127 (fJ29_setColor_m (xFG F) l2 (0 : Int32)) (Or.inl rfl) q1704 q157 (Or.inl q1702) q1703 (xroom hRm (Nat.le_of_ble_eq_true rfl) (Nat.le_of_ble_eq_true rfl)) ⟨by decide, by decide⟩ n_J29_setColor rfl (xcat (Nat.le_of_ble_eq_true rfl)) (fun _ => ?_)
    refine xr_aload_n 0 (r := (some l0)) F dJ29_fixAfterDeletion_130 rfl ?_
    refine xr_aload_n 2 (r := l2) F dJ29_fixAfterDeletion_131 rfl ?_
    refine xr_VV (y := yJ29_rotateRight) (As := [va_rf l2]) (r := (some l0)) F (hno _) dJ29_fixAfterDeletion_132 (fun z => fJ29_rotateRight_m (xFG F) z l2) (Or.inl rfl) (ci := 16) (C := RJ29) (T := TJ29) rfl q1712 q1709 q1711 qs13 (xroom hRm (Nat.le_of_ble_eq_true rfl) (Nat.le_of_ble_eq_true rfl)) ⟨by decide, by decide⟩ n_J29_rotateRight rfl (xcat (Nat.le_of_ble_eq_true rfl)) (fun _ => ?_)
    refine xr_aload_n 1 (r := l1) F dJ29_fixAfterDeletion_135 rfl ?_
    refine xr_SR (y := yJ29_parentOf) (As := [va_rf l1]) F (hno _) dJ29_fixAfterDeletion_136 (fJ29_parentOf_m (xFG F) l1) (Or.inl rfl) q1695 q157 (Or.inl q1693) q1694 (xroom hRm (Nat.le_of_ble_eq_true rfl) (Nat.le_of_ble_eq_true rfl)) ⟨by decide, by decide⟩ n_J29_parentOf rfl (xcat (Nat.le_of_ble_eq_true rfl)) (fun v136 => ?_)
    refine xr_SR (y := yJ29_rightOf) (As := [va_rf v136]) F (hno _) dJ29_fixAfterDeletion_139 (fJ29_rightOf_m (xFG F) v136) (Or.inl rfl) q1701 q157 (Or.inl q1699) q1700 (xroom hRm (Nat.le_of_ble_eq_true rfl) (Nat.le_of_ble_eq_true rfl)) ⟨by decide, by decide⟩ n_J29_rightOf rfl (xcat (Nat.le_of_ble_eq_true rfl)) (fun v139 => ?_)
    refine xs_a_n [0, 1] F dJ29_fixAfterDeletion_142 hnL rfl rfl (xk1 rfl rfl (xk2 rfl (xrf_cat _) xk0)) ?_
    exact xI.sub [1, 2, 0] rfl (fJ29_fixAfterDeletion_p143_ok F hnL hRm hno hmn hk0 l0 l1 v139)
  · exact xI.sub [0, 1, 2] rfl (fJ29_fixAfterDeletion_p143_ok F hnL hRm hno hmn hk0 l0 l1 l2)
theorem fJ29_fixAfterDeletion_p71_ok {x : xC} (F : xF x RJ29 cJ29_fixAfterDeletion none) (hnL : xnL x = 3) (hRm : ∃ dc ds, x.2.2.2.1 = { frames := 2, cells := dc, slots := ds, locals := 34 }) (hno : ∀ pc, xNo x pc) (hmn : xmn x = "fixAfterDeletion" ∧ xmy x yJ29_fixAfterDeletion) {k0 : Nat → Option Nat → xM (Unit)} (hk0 : ∀ (l0 : Nat) (l1 : Option Nat), xI x xeV 0 [(0, va_rf (some l0)), (1, va_rf l1)] [] (k0 l0 l1)) (l0 : Nat) (l1 : Option Nat) (l2 : Option Nat) : xI x xeV 71 [(0, va_rf (some l0)), (1, va_rf l1), (2, va_rf l2)] [] (fJ29_fixAfterDeletion_p71 k0 l0 l1 l2) := by
  unfold fJ29_fixAfterDeletion_p71
  refine xr_aload_n 2 (r := l2) F dJ29_fixAfterDeletion_71 rfl ?_
  refine xr_SR (y := yJ29_leftOf) (As := [va_rf l2]) F (hno _) dJ29_fixAfterDeletion_72 (fJ29_leftOf_m (xFG F) l2) (Or.inl rfl) q1698 q157 (Or.inl q1696) q1697 (xroom hRm (Nat.le_of_ble_eq_true rfl) (Nat.le_of_ble_eq_true rfl)) ⟨by decide, by decide⟩ n_J29_leftOf rfl (xcat (Nat.le_of_ble_eq_true rfl)) (fun v72 => ?_)
  refine xr_SI (y := yJ29_colorOf) (As := [va_rf v72]) F (hno _) dJ29_fixAfterDeletion_75 (fJ29_colorOf_m (xFG F) v72) (Or.inl rfl) q1692 q157 (Or.inl q1690) q1691 (xroom hRm (Nat.le_of_ble_eq_true rfl) (Nat.le_of_ble_eq_true rfl)) ⟨by decide, by decide⟩ n_J29_colorOf rfl (xcat (Nat.le_of_ble_eq_true rfl)) (fun v75 => ?_)
  refine xr_iconst (1 : Int32) F dJ29_fixAfterDeletion_78 rfl ?_
  refine xr_icmp_ne 106 F dJ29_fixAfterDeletion_79 rfl ?_ ?_
  · refine xr_aload_n 2 (r := l2) F dJ29_fixAfterDeletion_82 rfl ?_
    refine xr_SR (y := yJ29_rightOf) (As := [va_rf l2]) F (hno _) dJ29_fixAfterDeletion_83 (fJ29_rightOf_m (xFG F) l2) (Or.inl rfl) q1701 q157 (Or.inl q1699) q1700 (xroom hRm (Nat.le_of_ble_eq_true rfl) (Nat.le_of_ble_eq_true rfl)) ⟨by decide, by decide⟩ n_J29_rightOf rfl (xcat (Nat.le_of_ble_eq_true rfl)) (fun v83 => ?_)
    refine xr_SI (y := yJ29_colorOf) (As := [va_rf v83]) F (hno _) dJ29_fixAfterDeletion_86 (fJ29_colorOf_m (xFG F) v83) (Or.inl rfl) q1692 q157 (Or.inl q1690) q1691 (xroom hRm (Nat.le_of_ble_eq_true rfl) (Nat.le_of_ble_eq_true rfl)) ⟨by decide, by decide⟩ n_J29_colorOf rfl (xcat (Nat.le_of_ble_eq_true rfl)) (fun v86 => ?_)
    refine xr_iconst (1 : Int32) F dJ29_fixAfterDeletion_89 rfl ?_
    refine xr_icmp_ne 106 F dJ29_fixAfterDeletion_90 rfl ?_ ?_
    · refine xr_aload_n 2 (r := l2) F dJ29_fixAfterDeletion_93 rfl ?_
      refine xr_iconst (0 : Int32) F dJ29_fixAfterDeletion_94 rfl ?_
      refine xr_SV (y := yJ29_setColor) (As := [va_rf l2, .int (0 : Int32)]) F (hno _) dJ29_fixAfterDeletion_95 (fJ29_setColor_m (xFG F) l2 (0 : Int32)) (Or.inl rfl) q1704 q157 (Or.inl q1702) q1703 (xroom hRm (Nat.le_of_ble_eq_true rfl) (Nat.le_of_ble_eq_true rfl)) ⟨by decide, by decide⟩ n_J29_setColor rfl (xcat (Nat.le_of_ble_eq_true rfl)) (fun _ => ?_)
      refine xr_aload_n 1 (r := l1) F dJ29_fixAfterDeletion_98 rfl ?_
      refine xr_SR (y := yJ29_parentOf) (As := [va_rf l1]) F (hno _) dJ29_fixAfterDeletion_99 (fJ29_parentOf_m (xFG F) l1) (Or.inl rfl) q1695 q157 (Or.inl q1693) q1694 (xroom hRm (Nat.le_of_ble_eq_true rfl) (Nat.le_of_ble_eq_true rfl)) ⟨by decide, by decide⟩ n_J29_parentOf rfl (xcat (Nat.le_of_ble_eq_true rfl)) (fun v99 => ?_)
      refine xs_a_n [0] F dJ29_fixAfterDeletion_102 hnL rfl rfl (xk2 rfl (xrf_cat _) xk0) ?_
      refine xr_goto 183 F dJ29_fixAfterDeletion_103 rfl ?_
      exact xI.sub [1, 0] rfl (fJ29_fixAfterDeletion_p183_ok F hnL hRm hno hmn hk0 l0 v99)
    · exact xI.sub [0, 1, 2] rfl (fJ29_fixAfterDeletion_p106_ok F hnL hRm hno hmn hk0 l0 l1 l2)
  · exact xI.sub [0, 1, 2] rfl (fJ29_fixAfterDeletion_p106_ok F hnL hRm hno hmn hk0 l0 l1 l2)
theorem fJ29_fixAfterDeletion_p342_ok {x : xC} (F : xF x RJ29 cJ29_fixAfterDeletion none) (hnL : xnL x = 3) (hRm : ∃ dc ds, x.2.2.2.1 = { frames := 2, cells := dc, slots := ds, locals := 34 }) (hno : ∀ pc, xNo x pc) (hmn : xmn x = "fixAfterDeletion" ∧ xmy x yJ29_fixAfterDeletion) {k0 : Nat → Option Nat → xM (Unit)} (hk0 : ∀ (l0 : Nat) (l1 : Option Nat), xI x xeV 0 [(0, va_rf (some l0)), (1, va_rf l1)] [] (k0 l0 l1)) (l0 : Nat) (l1 : Option Nat) : xI x xeV 342 [(0, va_rf (some l0)), (1, va_rf l1)] [] (fJ29_fixAfterDeletion_p342 k0 l0 l1) := by
  unfold fJ29_fixAfterDeletion_p342
  refine xr_goto 0 F dJ29_fixAfterDeletion_342 rfl ?_
  exact xI.sub [0, 1] rfl (hk0 l0 l1)
theorem fJ29_fixAfterDeletion_p302_ok {x : xC} (F : xF x RJ29 cJ29_fixAfterDeletion none) (hnL : xnL x = 3) (hRm : ∃ dc ds, x.2.2.2.1 = { frames := 2, cells := dc, slots := ds, locals := 34 }) (hno : ∀ pc, xNo x pc) (hmn : xmn x = "fixAfterDeletion" ∧ xmy x yJ29_fixAfterDeletion) {k0 : Nat → Option Nat → xM (Unit)} (hk0 : ∀ (l0 : Nat) (l1 : Option Nat), xI x xeV 0 [(0, va_rf (some l0)), (1, va_rf l1)] [] (k0 l0 l1)) (l0 : Nat) (l1 : Option Nat) (l2 : Option Nat) : xI x xeV 302 [(0, va_rf (some l0)), (1, va_rf l1), (2, va_rf l2)] [] (fJ29_fixAfterDeletion_p302 k0 l0 l1 l2) := by
  unfold fJ29_fixAfterDeletion_p302
  refine xr_aload_n 2 (r := l2) F dJ29_fixAfterDeletion_302 rfl ?_
  refine xr_aload_n 1 (r := l1) F dJ29_fixAfterDeletion_303 rfl ?_
  refine xr_SR (y := yJ29_parentOf) (As := [va_rf l1]) F (hno _) dJ29_fixAfterDeletion_304 (fJ29_parentOf_m (xFG F) l1) (Or.inl rfl) q1695 q157 (Or.inl q1693) q1694 (xroom hRm (Nat.le_of_ble_eq_true rfl) (Nat.le_of_ble_eq_true rfl)) ⟨by decide, by decide⟩ n_J29_parentOf rfl (xcat (Nat.le_of_ble_eq_true rfl)) (fun v304 => ?_)
  refine xr_SI (y := yJ29_colorOf) (As := [va_rf v304]) F (hno _) dJ29_fixAfterDeletion_307 (fJ29_colorOf_m (xFG F) v304) (Or.inl rfl) q1692 q157 (Or.inl q1690) q1691 (xroom hRm (Nat.le_of_ble_eq_true rfl) (Nat.le_of_ble_eq_true rfl)) ⟨by decide, by decide⟩ n_J29_colorOf rfl (xcat (Nat.le_of_ble_eq_true rfl)) (fun v307 => ?_)
  refine xr_SV (y := yJ29_setColor) (As := [va_rf l2, .int v307]) F (hno _) dJ29_fixAfterDeletion_310 (fJ29_setColor_m (xFG F) l2 v307) (Or.inl rfl) q1704 q157 (Or.inl q1702) q1703 (xroom hRm (Nat.le_of_ble_eq_true rfl) (Nat.le_of_ble_eq_true rfl)) ⟨by decide, by decide⟩ n_J29_setColor rfl (xcat (Nat.le_of_ble_eq_true rfl)) (fun _ => ?_)
  refine xr_aload_n 1 (r := l1) F dJ29_fixAfterDeletion_313 rfl ?_
  refine xr_SR (y := yJ29_parentOf) (As := [va_rf l1]) F (hno _) dJ29_fixAfterDeletion_314 (fJ29_parentOf_m (xFG F) l1) (Or.inl rfl) q1695 q157 (Or.inl q1693) q1694 (xroom hRm (Nat.le_of_ble_eq_true rfl) (Nat.le_of_ble_eq_true rfl)) ⟨by decide, by decide⟩ n_J29_parentOf rfl (xcat (Nat.le_of_ble_eq_true rfl)) (fun v314 => ?_)
  refine xr_iconst (1 : Int32) F dJ29_fixAfterDeletion_317 rfl ?_
  refine xr_SV (y := yJ29_setColor) (As := [va_rf v314, .int (1 : Int32)]) F (hno _) dJ29_fixAfterDeletion_318 (fJ29_setColor_m (xFG F) v314 (1 : Int32)) (Or.inl rfl) q1704 q157 (Or.inl q1702) q1703 (xroom hRm (Nat.le_of_ble_eq_true rfl) (Nat.le_of_ble_eq_true rfl)) ⟨by decide, by decide⟩ n_J29_setColor rfl (xcat (Nat.le_of_ble_eq_true rfl)) (fun _ => ?_)
  refine xr_aload_n 2 (r := l2) F dJ29_fixAfterDeletion_321 rfl ?_
  refine xr_SR (y := yJ29_leftOf) (As := [va_rf l2]) F (hno _) dJ29_fixAfterDeletion_322 (fJ29_leftOf_m (xFG F) l2) (Or.inl rfl) q1698 q157 (Or.inl q1696) q1697 (xroom hRm (Nat.le_of_ble_eq_true rfl) (Nat.le_of_ble_eq_true rfl)) ⟨by decide, by decide⟩ n_J29_leftOf rfl (xcat (Nat.le_of_ble_eq_true rfl)) (fun v322 => ?_)
  refine xr_iconst (1 : Int32) F dJ29_fixAfterDeletion_325 rfl ?_
  refine xr_SV (y := yJ29_setColor) (As := [va_rf v322, .int (1 : Int32)]) F (hno _) dJ29_fixAfterDeletion_326 (fJ29_setColor_m (xFG F) v322 (1 : Int32)) (Or.inl rfl) q1704 q157 (Or.inl q1702) q1703 (xroom hRm (Nat.le_of_ble_eq_true rfl) (Nat.le_of_ble_eq_true rfl)) ⟨by decide, by decide⟩ n_J29_setColor rfl (xcat (Nat.le_of_ble_eq_true rfl)) (fun _ => ?_)
  refine xr_aload_n 0 (r := (some l0)) F dJ29_fixAfterDeletion_329 rfl ?_
  refine xr_aload_n 1 (r := l1) F dJ29_fixAfterDeletion_330 rfl ?_
  refine xr_SR (y := yJ29_parentOf) (As := [va_rf l1]) F (hno _) dJ29_fixAfterDeletion_331 (fJ29_parentOf_m (xFG F) l1) (Or.inl rfl) q1695 q157 (Or.inl q1693) q1694 (xroom hRm (Nat.le_of_ble_eq_true rfl) (Nat.le_of_ble_eq_true rfl)) ⟨by decide, by decide⟩ n_J29_parentOf rfl (xcat (Nat.le_of_ble_eq_true rfl)) (fun v331 => ?_)
  refine xr_VV (y := yJ29_rotateRight) (As := [va_rf v331]) (r := (some l0)) F (hno _) dJ29_fixAfterDeletion_334 (fun z => fJ29_rotateRight_m (xFG F) z v331) (Or.inl rfl) (ci := 16) (C := RJ29) (T := TJ29) rfl q1712 q1709 q1711 qs13 (xroom hRm (Nat.le_of_ble_eq_true rfl) (Nat.le_of_ble_eq_true rfl)) ⟨by decide, by decide⟩ n_J29_rotateRight rfl (xcat (Nat.le_of_ble_eq_true rfl)) (fun _ => ?_)
  refine xr_aload_n 0 (r := (some l0)) F dJ29_fixAfterDeletion_337 rfl ?_
  refine xr_gR (r := (some l0)) (ref := "java/util/TreeMap") F dJ29_fixAfterDeletion_338 (C := RJ29) (T := TJ29) (N := 9) rfl (by decide) (Or.inl q1888) (Or.inl rfl) (fun v338 => ?_)
  refine xs_a_n [0] F dJ29_fixAfterDeletion_341 hnL rfl rfl (xk2 rfl (xrf_cat _) xk0) ?_
  exact xI.sub [1, 0] rfl (fJ29_fixAfterDeletion_p342_ok F hnL hRm hno hmn hk0 l0 v338)
theorem fJ29_fixAfterDeletion_p265_ok {x : xC} (F : xF x RJ29 cJ29_fixAfterDeletion none) (hnL : xnL x = 3) (hRm : ∃ dc ds, x.2.2.2.1 = { frames := 2, cells := dc, slots := ds, locals := 34 }) (hno : ∀ pc, xNo x pc) (hmn : xmn x = "fixAfterDeletion" ∧ xmy x yJ29_fixAfterDeletion) {k0 : Nat → Option Nat → xM (Unit)} (hk0 : ∀ (l0 : Nat) (l1 : Option Nat), xI x xeV 0 [(0, va_rf (some l0)), (1, va_rf l1)] [] (k0 l0 l1)) (l0 : Nat) (l1 : Option Nat) (l2 : Option Nat) : xI x xeV 265 [(0, va_rf (some l0)), (1, va_rf l1), (2, va_rf l2)] [] (fJ29_fixAfterDeletion_p265 k0 l0 l1 l2) := by
  unfold fJ29_fixAfterDeletion_p265
  refine xr_aload_n 2 (r := l2) F dJ29_fixAfterDeletion_265 rfl ?_
  refine xr_SR (y := yJ29_leftOf) (As := [va_rf l2]) F (hno _) dJ29_fixAfterDeletion_266 (fJ29_leftOf_m (xFG F) l2) (Or.inl rfl) q1698 q157 (Or.inl q1696) q1697 (xroom hRm (Nat.le_of_ble_eq_true rfl) (Nat.le_of_ble_eq_true rfl)) ⟨by decide, by decide⟩ n_J29_leftOf rfl (xcat (Nat.le_of_ble_eq_true rfl)) (fun v266 => ?_)
  refine xr_SI (y := yJ29_colorOf) (As := [va_rf v266]) F (hno _) dJ29_fixAfterDeletion_269 (fJ29_colorOf_m (xFG F) v266) (Or.inl rfl) q1692 q157 (Or.inl q1690) q1691 (xroom hRm (Nat.le_of_ble_eq_true rfl) (Nat.le_of_ble_eq_true rfl)) ⟨by decide, by decide⟩ n_J29_colorOf rfl (xcat (Nat.le_of_ble_eq_true rfl)) (fun v269 => ?_)
  refine xr_iconst (1 : Int32) F dJ29_fixAfterDeletion_272 rfl ?_
  refine xr_icmp_ne 302 F dJ29_fixAfterDeletion_273 rfl ?_ ?_
  · refine xr_aload_n 2 (r := l2) F dJ29_fixAfterDeletion_276 rfl ?_
    refine xr_SR (y := yJ29_rightOf) (As := [va_rf l2]) F (hno _) dJ29_fixAfterDeletion_277 (fJ29_rightOf_m (xFG F) l2) (Or.inl rfl) q1701 q157 (Or.inl q1699) q1700 (xroom hRm (Nat.le_of_ble_eq_true rfl) (Nat.le_of_ble_eq_true rfl)) ⟨by decide, by decide⟩ n_J29_rightOf rfl (xcat (Nat.le_of_ble_eq_true rfl)) (fun v277 => ?_)
    refine xr_iconst (1 : Int32) F dJ29_fixAfterDeletion_280 rfl ?_
    refine xr_SV (y := yJ29_setColor) (As := [va_rf v277, .int (1 : Int32)]) F (hno _) dJ29_fixAfterDeletion_281 (fJ29_setColor_m (xFG F) v277 (1 : Int32)) (Or.inl rfl) q1704 q157 (Or.inl q1702) q1703 (xroom hRm (Nat.le_of_ble_eq_true rfl) (Nat.le_of_ble_eq_true rfl)) ⟨by decide, by decide⟩ n_J29_setColor rfl (xcat (Nat.le_of_ble_eq_true rfl)) (fun _ => ?_)
    refine xr_aload_n 2 (r := l2) F dJ29_fixAfterDeletion_284 rfl ?_
    refine xr_iconst (0 : Int32) F dJ29_fixAfterDeletion_285 rfl ?_
    refine xr_SV (y := yJ29_setColor) (As := [va_rf l2, .int (0 : Int32)]) F (hno _) dJ29_fixAfterDeletion_286 (fJ29_setColor_m (xFG F) l2 (0 : Int32)) (Or.inl rfl) q1704 q157 (Or.inl q1702) q1703 (xroom hRm (Nat.le_of_ble_eq_true rfl) (Nat.le_of_ble_eq_true rfl)) ⟨by decide, by decide⟩ n_J29_setColor rfl (xcat (Nat.le_of_ble_eq_true rfl)) (fun _ => ?_)
    refine xr_aload_n 0 (r := (some l0)) F dJ29_fixAfterDeletion_289 rfl ?_
    refine xr_aload_n 2 (r := l2) F dJ29_fixAfterDeletion_290 rfl ?_
    refine xr_VV (y := yJ29_rotateLeft) (As := [va_rf l2]) (r := (some l0)) F (hno _) dJ29_fixAfterDeletion_291 (fun z => fJ29_rotateLeft_m (xFG F) z l2) (Or.inl rfl) (ci := 16) (C := RJ29) (T := TJ29) rfl q1708 q1705 q1707 qs12 (xroom hRm (Nat.le_of_ble_eq_true rfl) (Nat.le_of_ble_eq_true rfl)) ⟨by decide, by decide⟩ n_J29_rotateLeft rfl (xcat (Nat.le_of_ble_eq_true rfl)) (fun _ => ?_)
    refine xr_aload_n 1 (r := l1) F dJ29_fixAfterDeletion_294 rfl ?_
    refine xr_SR (y := yJ29_parentOf) (As := [va_rf l1]) F (hno _) dJ29_fixAfterDeletion_295 (fJ29_parentOf_m (xFG F) l1) (Or.inl rfl) q1695 q157 (Or.inl q1693) q1694 (xroom hRm (Nat.le_of_ble_eq_true rfl) (Nat.le_of_ble_eq_true rfl)) ⟨by decide, by decide⟩ n_J29_parentOf rfl (xcat (Nat.le_of_ble_eq_true rfl)) (fun v295 => ?_)
    refine xr_SR (y := yJ29_leftOf) (As := [va_rf v295]) F (hno _) dJ29_fixAfterDeletion_298 (fJ29_leftOf_m (xFG F) v295) (Or.inl rfl) q1698 q157 (Or.inl q1696) q1697 (xroom hRm (Nat.le_of_ble_eq_true rfl) (Nat.le_of_ble_eq_true rfl)) ⟨by decide, by decide⟩ n_J29_leftOf rfl (xcat (Nat.le_of_ble_eq_true rfl)) (fun v298 => ?_)
    refine xs_a_n [0, 1] F dJ29_fixAfterDeletion_301 hnL rfl rfl (xk1 rfl rfl (xk2 rfl (xrf_cat _) xk0)) ?_
    exact xI.sub [1, 2, 0] rfl (fJ29_fixAfterDeletion_p302_ok F hnL hRm hno hmn hk0 l0 l1 v298)
  · exact xI.sub [0, 1, 2] rfl (fJ29_fixAfterDeletion_p302_ok F hnL hRm hno hmn hk0 l0 l1 l2)
theorem fJ29_fixAfterDeletion_p230_ok {x : xC} (F : xF x RJ29 cJ29_fixAfterDeletion none) (hnL : xnL x = 3) (hRm : ∃ dc ds, x.2.2.2.1 = { frames := 2, cells := dc, slots := ds, locals := 34 }) (hno : ∀ pc, xNo x pc) (hmn : xmn x = "fixAfterDeletion" ∧ xmy x yJ29_fixAfterDeletion) {k0 : Nat → Option Nat → xM (Unit)} (hk0 : ∀ (l0 : Nat) (l1 : Option Nat), xI x xeV 0 [(0, va_rf (some l0)), (1, va_rf l1)] [] (k0 l0 l1)) (l0 : Nat) (l1 : Option Nat) (l2 : Option Nat) : xI x xeV 230 [(0, va_rf (some l0)), (1, va_rf l1), (2, va_rf l2)] [] (fJ29_fixAfterDeletion_p230 k0 l0 l1 l2) := by
  unfold fJ29_fixAfterDeletion_p230
  refine xr_aload_n 2 (r := l2) F dJ29_fixAfterDeletion_230 rfl ?_
  refine xr_SR (y := yJ29_rightOf) (As := [va_rf l2]) F (hno _) dJ29_fixAfterDeletion_231 (fJ29_rightOf_m (xFG F) l2) (Or.inl rfl) q1701 q157 (Or.inl q1699) q1700 (xroom hRm (Nat.le_of_ble_eq_true rfl) (Nat.le_of_ble_eq_true rfl)) ⟨by decide, by decide⟩ n_J29_rightOf rfl (xcat (Nat.le_of_ble_eq_true rfl)) (fun v231 => ?_)
  refine xr_SI (y := yJ29_colorOf) (As := [va_rf v231]) F (hno _) dJ29_fixAfterDeletion_234 (fJ29_colorOf_m (xFG F) v231) (Or.inl rfl) q1692 q157 (Or.inl q1690) q1691 (xroom hRm (Nat.le_of_ble_eq_true rfl) (Nat.le_of_ble_eq_true rfl)) ⟨by decide, by decide⟩ n_J29_colorOf rfl (xcat (Nat.le_of_ble_eq_true rfl)) (fun v234 => ?_)
  refine xr_iconst (1 : Int32) F dJ29_fixAfterDeletion_237 rfl ?_
  refine xr_icmp_ne 265 F dJ29_fixAfterDeletion_238 rfl ?_ ?_
  · refine xr_aload_n 2 (r := l2) F dJ29_fixAfterDeletion_241 rfl ?_
    refine xr_SR (y := yJ29_leftOf) (As := [va_rf l2]) F (hno _) dJ29_fixAfterDeletion_242 (fJ29_leftOf_m (xFG F) l2) (Or.inl rfl) q1698 q157 (Or.inl q1696) q1697 (xroom hRm (Nat.le_of_ble_eq_true rfl) (Nat.le_of_ble_eq_true rfl)) ⟨by decide, by decide⟩ n_J29_leftOf rfl (xcat (Nat.le_of_ble_eq_true rfl)) (fun v242 => ?_)
    refine xr_SI (y := yJ29_colorOf) (As := [va_rf v242]) F (hno _) dJ29_fixAfterDeletion_245 (fJ29_colorOf_m (xFG F) v242) (Or.inl rfl) q1692 q157 (Or.inl q1690) q1691 (xroom hRm (Nat.le_of_ble_eq_true rfl) (Nat.le_of_ble_eq_true rfl)) ⟨by decide, by decide⟩ n_J29_colorOf rfl (xcat (Nat.le_of_ble_eq_true rfl)) (fun v245 => ?_)
    refine xr_iconst (1 : Int32) F dJ29_fixAfterDeletion_248 rfl ?_
    refine xr_icmp_ne 265 F dJ29_fixAfterDeletion_249 rfl ?_ ?_
    · refine xr_aload_n 2 (r := l2) F dJ29_fixAfterDeletion_252 rfl ?_
      refine xr_iconst (0 : Int32) F dJ29_fixAfterDeletion_253 rfl ?_
      refine xr_SV (y := yJ29_setColor) (As := [va_rf l2, .int (0 : Int32)]) F (hno _) dJ29_fixAfterDeletion_254 (fJ29_setColor_m (xFG F) l2 (0 : Int32)) (Or.inl rfl) q1704 q157 (Or.inl q1702) q1703 (xroom hRm (Nat.le_of_ble_eq_true rfl) (Nat.le_of_ble_eq_true rfl)) ⟨by decide, by decide⟩ n_J29_setColor rfl (xcat (Nat.le_of_ble_eq_true rfl)) (fun _ => ?_)
      refine xr_aload_n 1 (r := l1) F dJ29_fixAfterDeletion_257 rfl ?_
      refine xr_SR (y := yJ29_parentOf) (As := [va_rf l1]) F (hno _) dJ29_fixAfterDeletion_258 (fJ29_parentOf_m (xFG F) l1) (Or.inl rfl) q1695 q157 (Or.inl q1693) q1694 (xroom hRm (Nat.le_of_ble_eq_true rfl) (Nat.le_of_ble_eq_true rfl)) ⟨by decide, by decide⟩ n_J29_parentOf rfl (xcat (Nat.le_of_ble_eq_true rfl)) (fun v258 => ?_)
      refine xs_a_n [0] F dJ29_fixAfterDeletion_261 hnL rfl rfl (xk2 rfl (xrf_cat _) xk0) ?_
      refine xr_goto 342 F dJ29_fixAfterDeletion_262 rfl ?_
      exact xI.sub [1, 0] rfl (fJ29_fixAfterDeletion_p342_ok F hnL hRm hno hmn hk0 l0 v258)
    · exact xI.sub [0, 1, 2] rfl (fJ29_fixAfterDeletion_p265_ok F hnL hRm hno hmn hk0 l0 l1 l2)
  · exact xI.sub [0, 1, 2] rfl (fJ29_fixAfterDeletion_p265_ok F hnL hRm hno hmn hk0 l0 l1 l2)
theorem fJ29_fixAfterDeletion_p345_ok {x : xC} (F : xF x RJ29 cJ29_fixAfterDeletion none) (hnL : xnL x = 3) (hRm : ∃ dc ds, x.2.2.2.1 = { frames := 2, cells := dc, slots := ds, locals := 34 }) (hno : ∀ pc, xNo x pc) (hmn : xmn x = "fixAfterDeletion" ∧ xmy x yJ29_fixAfterDeletion) (l1 : Option Nat) : xI x xeV 345 [(1, va_rf l1)] [] (fJ29_fixAfterDeletion_p345 l1) := by
  unfold fJ29_fixAfterDeletion_p345
  refine xr_aload_n 0 (r := l1) F dJ29_fixAfterDeletion_345 rfl ?_
  refine xr_iconst (1 : Int32) F dJ29_fixAfterDeletion_346 rfl ?_
  refine xr_SV (y := yJ29_setColor) (As := [va_rf l1, .int (1 : Int32)]) F (hno _) dJ29_fixAfterDeletion_347 (fJ29_setColor_m (xFG F) l1 (1 : Int32)) (Or.inl rfl) q1704 q157 (Or.inl q1702) q1703 (xroom hRm (Nat.le_of_ble_eq_true rfl) (Nat.le_of_ble_eq_true rfl)) ⟨by decide, by decide⟩ n_J29_setColor rfl (xcat (Nat.le_of_ble_eq_true rfl)) (fun _ => ?_)
  exact xr_vret F dJ29_fixAfterDeletion_350
theorem fJ29_fixAfterDeletion_p0_ok {x : xC} (F : xF x RJ29 cJ29_fixAfterDeletion none) (hnL : xnL x = 3) (hRm : ∃ dc ds, x.2.2.2.1 = { frames := 2, cells := dc, slots := ds, locals := 34 }) (hno : ∀ pc, xNo x pc) (hmn : xmn x = "fixAfterDeletion" ∧ xmy x yJ29_fixAfterDeletion) : ∀ (n : Nat) (l0 : Nat) (l1 : Option Nat), xI x xeV 0 [(0, va_rf (some l0)), (1, va_rf l1)] [] (fJ29_fixAfterDeletion_p0 n l0 l1) := by
  intro n
  induction n with
  | zero => intro l0 l1; exact xI.stuck
  | succ n ih =>
    intro l0 l1
    unfold fJ29_fixAfterDeletion_p0
    refine xr_aload_n 1 (r := l1) F dJ29_fixAfterDeletion_0 rfl ?_
    refine xr_aload_n 0 (r := (some l0)) F dJ29_fixAfterDeletion_1 rfl ?_
    refine xr_gR (r := (some l0)) (ref := "java/util/TreeMap") F dJ29_fixAfterDeletion_2 (C := RJ29) (T := TJ29) (N := 9) rfl (by decide) (Or.inl q1888) (Or.inl rfl) (fun v2 => ?_)
    refine xr_acmp_eq 345 F dJ29_fixAfterDeletion_5 rfl ?_ ?_
    · exact xI.sub [1] rfl (fJ29_fixAfterDeletion_p345_ok F hnL hRm hno hmn l1)
    · refine xr_aload_n 1 (r := l1) F dJ29_fixAfterDeletion_8 rfl ?_
      refine xr_SI (y := yJ29_colorOf) (As := [va_rf l1]) F (hno _) dJ29_fixAfterDeletion_9 (fJ29_colorOf_m (xFG F) l1) (Or.inl rfl) q1692 q157 (Or.inl q1690) q1691 (xroom hRm (Nat.le_of_ble_eq_true rfl) (Nat.le_of_ble_eq_true rfl)) ⟨by decide, by decide⟩ n_J29_colorOf rfl (xcat (Nat.le_of_ble_eq_true rfl)) (fun v9 => ?_)
      refine xr_iconst (1 : Int32) F dJ29_fixAfterDeletion_12 rfl ?_
      refine xr_icmp_ne 345 F dJ29_fixAfterDeletion_13 rfl ?_ ?_
      · refine xr_aload_n 1 (r := l1) F dJ29_fixAfterDeletion_16 rfl ?_
        refine xr_aload_n 1 (r := l1) F dJ29_fixAfterDeletion_17 rfl ?_
        refine xr_SR (y := yJ29_parentOf) (As := [va_rf l1]) F (hno _) dJ29_fixAfterDeletion_18 (fJ29_parentOf_m (xFG F) l1) (Or.inl rfl) q1695 q157 (Or.inl q1693) q1694 (xroom hRm (Nat.le_of_ble_eq_true rfl) (Nat.le_of_ble_eq_true rfl)) ⟨by decide, by decide⟩ n_J29_parentOf rfl (xcat (Nat.le_of_ble_eq_true rfl)) (fun v18 => ?_)
        refine xr_SR (y := yJ29_leftOf) (As := [va_rf v18]) F (hno _) dJ29_fixAfterDeletion_21 (fJ29_leftOf_m (xFG F) v18) (Or.inl rfl) q1698 q157 (Or.inl q1696) q1697 (xroom hRm (Nat.le_of_ble_eq_true rfl) (Nat.le_of_ble_eq_true rfl)) ⟨by decide, by decide⟩ n_J29_leftOf rfl (xcat (Nat.le_of_ble_eq_true rfl)) (fun v21 => ?_)
        refine xr_acmp_ne 186 F dJ29_fixAfterDeletion_24 rfl ?_ ?_
        · refine xr_aload_n 1 (r := l1) F dJ29_fixAfterDeletion_27 rfl ?_
          refine xr_SR (y := yJ29_parentOf) (As := [va_rf l1]) F (hno _) dJ29_fixAfterDeletion_28 (fJ29_parentOf_m (xFG F) l1) (Or.inl rfl) q1695 q157 (Or.inl q1693) q1694 (xroom hRm (Nat.le_of_ble_eq_true rfl) (Nat.le_of_ble_eq_true rfl)) ⟨by decide, by decide⟩ n_J29_parentOf rfl (xcat (Nat.le_of_ble_eq_true rfl)) (fun v28 => ?_)
          refine xr_SR (y := yJ29_rightOf) (As := [va_rf v28]) F (hno _) dJ29_fixAfterDeletion_31 (fJ29_rightOf_m (xFG F) v28) (Or.inl rfl) q1701 q157 (Or.inl q1699) q1700 (xroom hRm (Nat.le_of_ble_eq_true rfl) (Nat.le_of_ble_eq_true rfl)) ⟨by decide, by decide⟩ n_J29_rightOf rfl (xcat (Nat.le_of_ble_eq_true rfl)) (fun v31 => ?_)
          refine xs_a_n [0, 1] F dJ29_fixAfterDeletion_34 hnL rfl rfl (xk1 rfl rfl (xk2 rfl (xrf_cat _) xk0)) ?_
          refine xr_aload_n 0 (r := v31) F dJ29_fixAfterDeletion_35 rfl ?_
          refine xr_SI (y := yJ29_colorOf) (As := [va_rf v31]) F (hno _) dJ29_fixAfterDeletion_36 (fJ29_colorOf_m (xFG F) v31) (Or.inl rfl) q1692 q157 (Or.inl q1690) q1691 (xroom hRm (Nat.le_of_ble_eq_true rfl) (Nat.le_of_ble_eq_true rfl)) ⟨by decide, by decide⟩ n_J29_colorOf rfl (xcat (Nat.le_of_ble_eq_true rfl)) (fun v36 => ?_)
          refine xr_if_ne 71 F dJ29_fixAfterDeletion_39 rfl ?_ ?_
          · refine xr_aload_n 0 (r := v31) F dJ29_fixAfterDeletion_42 rfl ?_
            refine xr_iconst (1 : Int32) F dJ29_fixAfterDeletion_43 rfl ?_
            refine xr_SV (y := yJ29_setColor) (As := [va_rf v31, .int (1 : Int32)]) F (hno _) dJ29_fixAfterDeletion_44 (fJ29_setColor_m (xFG F) v31 (1 : Int32)) (Or.inl rfl) q1704 q157 (Or.inl q1702) q1703 (xroom hRm (Nat.le_of_ble_eq_true rfl) (Nat.le_of_ble_eq_true rfl)) ⟨by decide, by decide⟩ n_J29_setColor rfl (xcat (Nat.le_of_ble_eq_true rfl)) (fun _ => ?_)
            refine xr_aload_n 2 (r := l1) F dJ29_fixAfterDeletion_47 rfl ?_
            refine xr_SR (y := yJ29_parentOf) (As := [va_rf l1]) F (hno _) dJ29_fixAfterDeletion_48 (fJ29_parentOf_m (xFG F) l1) (Or.inl rfl) q1695 q157 (Or.inl q1693) q1694 (xroom hRm (Nat.le_of_ble_eq_true rfl) (Nat.le_of_ble_eq_true rfl)) ⟨by decide, by decide⟩ n_J29_parentOf rfl (xcat (Nat.le_of_ble_eq_true rfl)) (fun v48 => ?_)
            refine xr_iconst (0 : Int32) F dJ29_fixAfterDeletion_51 rfl ?_
            refine xr_SV (y := yJ29_setColor) (As := [va_rf v48, .int (0 : Int32)]) F (hno _) dJ29_fixAfterDeletion_52 (fJ29_setColor_m (xFG F) v48 (0 : Int32)) (Or.inl rfl) q1704 q157 (Or.inl q1702) q1703 (xroom hRm (Nat.le_of_ble_eq_true rfl) (Nat.le_of_ble_eq_true rfl)) ⟨by decide, by decide⟩ n_J29_setColor rfl (xcat (Nat.le_of_ble_eq_true rfl)) (fun _ => ?_)
            refine xr_aload_n 1 (r := (some l0)) F dJ29_fixAfterDeletion_55 rfl ?_
            refine xr_aload_n 2 (r := l1) F dJ29_fixAfterDeletion_56 rfl ?_
            refine xr_SR (y := yJ29_parentOf) (As := [va_rf l1]) F (hno _) dJ29_fixAfterDeletion_57 (fJ29_parentOf_m (xFG F) l1) (Or.inl rfl) q1695 q157 (Or.inl q1693) q1694 (xroom hRm (Nat.le_of_ble_eq_true rfl) (Nat.le_of_ble_eq_true rfl)) ⟨by decide, by decide⟩ n_J29_parentOf rfl (xcat (Nat.le_of_ble_eq_true rfl)) (fun v57 => ?_)
            refine xr_VV (y := yJ29_rotateLeft) (As := [va_rf v57]) (r := (some l0)) F (hno _) dJ29_fixAfterDeletion_60 (fun z => fJ29_rotateLeft_m (xFG F) z v57) (Or.inl rfl) (ci := 16) (C := RJ29) (T := TJ29) rfl q1708 q1705 q1707 qs12 (xroom hRm (Nat.le_of_ble_eq_true rfl) (Nat.le_of_ble_eq_true rfl)) ⟨by decide, by decide⟩ n_J29_rotateLeft rfl (xcat (Nat.le_of_ble_eq_true rfl)) (fun _ => ?_)
            refine xr_aload_n 2 (r := l1) F dJ29_fixAfterDeletion_63 rfl ?_
            refine xr_SR (y := yJ29_parentOf) (As := [va_rf l1]) F (hno _) dJ29_fixAfterDeletion_64 (fJ29_parentOf_m (xFG F) l1) (Or.inl rfl) q1695 q157 (Or.inl q1693) q1694 (xroom hRm (Nat.le_of_ble_eq_true rfl) (Nat.le_of_ble_eq_true rfl)) ⟨by decide, by decide⟩ n_J29_parentOf rfl (xcat (Nat.le_of_ble_eq_true rfl)) (fun v64 => ?_)
            refine xr_SR (y := yJ29_rightOf) (As := [va_rf v64]) F (hno _) dJ29_fixAfterDeletion_67 (fJ29_rightOf_m (xFG F) v64) (Or.inl rfl) q1701 q157 (Or.inl q1699) q1700 (xroom hRm (Nat.le_of_ble_eq_true rfl) (Nat.le_of_ble_eq_true rfl)) ⟨by decide, by decide⟩ n_J29_rightOf rfl (xcat (Nat.le_of_ble_eq_true rfl)) (fun v67 => ?_)
            refine xs_a_n [1, 2] F dJ29_fixAfterDeletion_70 hnL rfl rfl (xk1 rfl rfl (xk2 rfl (xrf_cat _) xk0)) ?_
            exact xI.sub [1, 2, 0] rfl (fJ29_fixAfterDeletion_p71_ok F hnL hRm hno hmn ih l0 l1 v67)
          · exact xI.sub [1, 2, 0] rfl (fJ29_fixAfterDeletion_p71_ok F hnL hRm hno hmn ih l0 l1 v31)
        · refine xr_aload_n 1 (r := l1) F dJ29_fixAfterDeletion_186 rfl ?_
          refine xr_SR (y := yJ29_parentOf) (As := [va_rf l1]) F (hno _) dJ29_fixAfterDeletion_187 (fJ29_parentOf_m (xFG F) l1) (Or.inl rfl) q1695 q157 (Or.inl q1693) q1694 (xroom hRm (Nat.le_of_ble_eq_true rfl) (Nat.le_of_ble_eq_true rfl)) ⟨by decide, by decide⟩ n_J29_parentOf rfl (xcat (Nat.le_of_ble_eq_true rfl)) (fun v187 => ?_)
          refine xr_SR (y := yJ29_leftOf) (As := [va_rf v187]) F (hno _) dJ29_fixAfterDeletion_190 (fJ29_leftOf_m (xFG F) v187) (Or.inl rfl) q1698 q157 (Or.inl q1696) q1697 (xroom hRm (Nat.le_of_ble_eq_true rfl) (Nat.le_of_ble_eq_true rfl)) ⟨by decide, by decide⟩ n_J29_leftOf rfl (xcat (Nat.le_of_ble_eq_true rfl)) (fun v190 => ?_)
          refine xs_a_n [0, 1] F dJ29_fixAfterDeletion_193 hnL rfl rfl (xk1 rfl rfl (xk2 rfl (xrf_cat _) xk0)) ?_
          refine xr_aload_n 0 (r := v190) F dJ29_fixAfterDeletion_194 rfl ?_
          refine xr_SI (y := yJ29_colorOf) (As := [va_rf v190]) F (hno _) dJ29_fixAfterDeletion_195 (fJ29_colorOf_m (xFG F) v190) (Or.inl rfl) q1692 q157 (Or.inl q1690) q1691 (xroom hRm (Nat.le_of_ble_eq_true rfl) (Nat.le_of_ble_eq_true rfl)) ⟨by decide, by decide⟩ n_J29_colorOf rfl (xcat (Nat.le_of_ble_eq_true rfl)) (fun v195 => ?_)
          refine xr_if_ne 230 F dJ29_fixAfterDeletion_198 rfl ?_ ?_
          · refine xr_aload_n 0 (r := v190) F dJ29_fixAfterDeletion_201 rfl ?_
            refine xr_iconst (1 : Int32) F dJ29_fixAfterDeletion_202 rfl ?_
            refine xr_SV (y := yJ29_setColor) (As := [va_rf v190, .int (1 : Int32)]) F (hno _) dJ29_fixAfterDeletion_203 (fJ29_setColor_m (xFG F) v190 (1 : Int32)) (Or.inl rfl) q1704 q157 (Or.inl q1702) q1703 (xroom hRm (Nat.le_of_ble_eq_true rfl) (Nat.le_of_ble_eq_true rfl)) ⟨by decide, by decide⟩ n_J29_setColor rfl (xcat (Nat.le_of_ble_eq_true rfl)) (fun _ => ?_)
            refine xr_aload_n 2 (r := l1) F dJ29_fixAfterDeletion_206 rfl ?_
            refine xr_SR (y := yJ29_parentOf) (As := [va_rf l1]) F (hno _) dJ29_fixAfterDeletion_207 (fJ29_parentOf_m (xFG F) l1) (Or.inl rfl) q1695 q157 (Or.inl q1693) q1694 (xroom hRm (Nat.le_of_ble_eq_true rfl) (Nat.le_of_ble_eq_true rfl)) ⟨by decide, by decide⟩ n_J29_parentOf rfl (xcat (Nat.le_of_ble_eq_true rfl)) (fun v207 => ?_)
            refine xr_iconst (0 : Int32) F dJ29_fixAfterDeletion_210 rfl ?_
            refine xr_SV (y := yJ29_setColor) (As := [va_rf v207, .int (0 : Int32)]) F (hno _) dJ29_fixAfterDeletion_211 (fJ29_setColor_m (xFG F) v207 (0 : Int32)) (Or.inl rfl) q1704 q157 (Or.inl q1702) q1703 (xroom hRm (Nat.le_of_ble_eq_true rfl) (Nat.le_of_ble_eq_true rfl)) ⟨by decide, by decide⟩ n_J29_setColor rfl (xcat (Nat.le_of_ble_eq_true rfl)) (fun _ => ?_)
            refine xr_aload_n 1 (r := (some l0)) F dJ29_fixAfterDeletion_214 rfl ?_
            refine xr_aload_n 2 (r := l1) F dJ29_fixAfterDeletion_215 rfl ?_
            refine xr_SR (y := yJ29_parentOf) (As := [va_rf l1]) F (hno _) dJ29_fixAfterDeletion_216 (fJ29_parentOf_m (xFG F) l1) (Or.inl rfl) q1695 q157 (Or.inl q1693) q1694 (xroom hRm (Nat.le_of_ble_eq_true rfl) (Nat.le_of_ble_eq_true rfl)) ⟨by decide, by decide⟩ n_J29_parentOf rfl (xcat (Nat.le_of_ble_eq_true rfl)) (fun v216 => ?_)
            refine xr_VV (y := yJ29_rotateRight) (As := [va_rf v216]) (r := (some l0)) F (hno _) dJ29_fixAfterDeletion_219 (fun z => fJ29_rotateRight_m (xFG F) z v216) (Or.inl rfl) (ci := 16) (C := RJ29) (T := TJ29) rfl q1712 q1709 q1711 qs13 (xroom hRm (Nat.le_of_ble_eq_true rfl) (Nat.le_of_ble_eq_true rfl)) ⟨by decide, by decide⟩ n_J29_rotateRight rfl (xcat (Nat.le_of_ble_eq_true rfl)) (fun _ => ?_)
            refine xr_aload_n 2 (r := l1) F dJ29_fixAfterDeletion_222 rfl ?_
            refine xr_SR (y := yJ29_parentOf) (As := [va_rf l1]) F (hno _) dJ29_fixAfterDeletion_223 (fJ29_parentOf_m (xFG F) l1) (Or.inl rfl) q1695 q157 (Or.inl q1693) q1694 (xroom hRm (Nat.le_of_ble_eq_true rfl) (Nat.le_of_ble_eq_true rfl)) ⟨by decide, by decide⟩ n_J29_parentOf rfl (xcat (Nat.le_of_ble_eq_true rfl)) (fun v223 => ?_)
            refine xr_SR (y := yJ29_leftOf) (As := [va_rf v223]) F (hno _) dJ29_fixAfterDeletion_226 (fJ29_leftOf_m (xFG F) v223) (Or.inl rfl) q1698 q157 (Or.inl q1696) q1697 (xroom hRm (Nat.le_of_ble_eq_true rfl) (Nat.le_of_ble_eq_true rfl)) ⟨by decide, by decide⟩ n_J29_leftOf rfl (xcat (Nat.le_of_ble_eq_true rfl)) (fun v226 => ?_)
            refine xs_a_n [1, 2] F dJ29_fixAfterDeletion_229 hnL rfl rfl (xk1 rfl rfl (xk2 rfl (xrf_cat _) xk0)) ?_
            exact xI.sub [1, 2, 0] rfl (fJ29_fixAfterDeletion_p230_ok F hnL hRm hno hmn ih l0 l1 v226)
          · exact xI.sub [1, 2, 0] rfl (fJ29_fixAfterDeletion_p230_ok F hnL hRm hno hmn ih l0 l1 v190)
      · exact xI.sub [1] rfl (fJ29_fixAfterDeletion_p345_ok F hnL hRm hno hmn l1)
theorem fJ29_fixAfterDeletion_m {l : Launch} {D : xD} {s0 : State} {b0 : Nat} {Γ : Nat → Option Nat} (G : xG l D s0 b0 Γ) (a0 : Nat) (p0 : Option Nat) : xMeth l D s0 Γ yJ29_fixAfterDeletion (Cond.code yJ29_fixAfterDeletion cJ29_fixAfterDeletion 3 none) (2) (34) [.ref a0, va_rf p0] xeV (fJ29_fixAfterDeletion a0 p0) := by
  refine xMeth.of (lv0 := [(0, va_rf (some a0)), (1, va_rf p0)]) G (by decide +kernel) (Or.inl rfl) (by simp [lg_sl, xrf_cat, xct_i, xct_l, xct_d, xct_r]) (by simp [lv_args, xrf_cat, xct_i, xct_l, xct_d, xct_r, xrf_some]) (fun x F hnL hRm hmn ht e1 e2 e3 e4 => ?_)
  have hno : ∀ pc, xNo x pc := fun pc z hz => by rw [ht.1 rfl] at hz; cases hz
  unfold fJ29_fixAfterDeletion
  exact xI.sub [0, 1] rfl (fJ29_fixAfterDeletion_p0_ok F hnL hRm hno hmn xFU a0 p0)
theorem fJ29_deleteEntry_p133_ok {x : xC} (F : xF x RJ29 cJ29_deleteEntry none) (hnL : xnL x = 3) (hRm : ∃ dc ds, x.2.2.2.1 = { frames := 3, cells := dc, slots := ds, locals := 56 }) (hno : ∀ pc, xNo x pc) (hmn : xmn x = "deleteEntry" ∧ xmy x yJ29_deleteEntry) (l0 : Nat) (l1 : Option Nat) (l2 : Option Nat) : xI x xeV 133 [(0, va_rf (some l0)), (1, va_rf l1), (2, va_rf l2)] [] (fJ29_deleteEntry_p133 l0 l1 l2) := by
  unfold fJ29_deleteEntry_p133
  refine xr_aload_n 1 (r := l1) F dJ29_deleteEntry_133 rfl ?_
  refine xr_aload_n 1 (r := l1) F dJ29_deleteEntry_134 rfl ?_
  refine xr_aload_n 1 (r := l1) F dJ29_deleteEntry_135 rfl ?_
  refine xr_null F dJ29_deleteEntry_136 ?_
  refine xr_dup_x1 F dJ29_deleteEntry_137 (xrf_cat _) (xrf_cat _) ?_
  refine xr_put (r := l1) (ref := "java/util/TreeMap$Entry") F dJ29_deleteEntry_138 xk_36 (by decide) (Or.inl q3167) (Or.inl rfl) (Or.inl rfl) (xr_rf _ _) ?_
  refine xr_dup_x1 F dJ29_deleteEntry_141 (xrf_cat _) (xrf_cat _) ?_
  refine xr_put (r := l1) (ref := "java/util/TreeMap$Entry") F dJ29_deleteEntry_142 xk_36 (by decide) (Or.inl q3165) (Or.inl rfl) (Or.inl rfl) (xr_rf _ _) ?_
  refine xr_put (r := l1) (ref := "java/util/TreeMap$Entry") F dJ29_deleteEntry_145 xk_36 (by decide) (Or.inl q3164) (Or.inl rfl) (Or.inl rfl) (xr_rf _ _) ?_
  refine xr_aload_n 1 (r := l1) F dJ29_deleteEntry_148 rfl ?_
  refine xr_gI (r := l1) (ref := "java/util/TreeMap$Entry") F dJ29_deleteEntry_149 (C := RJ47) (T := TJ47) (N := 6) rfl (by decide) (Or.inl q3169) (Or.inl rfl) (fun v149 => ?_)
  refine xr_iconst (1 : Int32) F dJ29_deleteEntry_152 rfl ?_
  refine xr_icmp_ne 245 F dJ29_deleteEntry_153 rfl ?_ ?_
  · refine xr_aload_n 0 (r := (some l0)) F dJ29_deleteEntry_156 rfl ?_
    refine xr_aload_n 2 (r := l2) F dJ29_deleteEntry_157 rfl ?_
    refine xr_VV (y := yJ29_fixAfterDeletion) (As := [va_rf l2]) (r := (some l0)) F (hno _) dJ29_deleteEntry_158 (fun z => fJ29_fixAfterDeletion_m (xFG F) z l2) (Or.inl rfl) (ci := 16) (C := RJ29) (T := TJ29) rfl q1689 q1686 q1688 qs11 (xroom hRm (Nat.le_of_ble_eq_true rfl) (Nat.le_of_ble_eq_true rfl)) ⟨by decide, by decide⟩ n_J29_fixAfterDeletion rfl (xcat (Nat.le_of_ble_eq_true rfl)) (fun _ => ?_)
    refine xr_goto 245 F dJ29_deleteEntry_161 rfl ?_
    exact xr_vret F dJ29_deleteEntry_245
  · exact xr_vret F dJ29_deleteEntry_245
theorem fJ29_deleteEntry_p240_ok {x : xC} (F : xF x RJ29 cJ29_deleteEntry none) (hnL : xnL x = 3) (hRm : ∃ dc ds, x.2.2.2.1 = { frames := 3, cells := dc, slots := ds, locals := 56 }) (hno : ∀ pc, xNo x pc) (hmn : xmn x = "deleteEntry" ∧ xmy x yJ29_deleteEntry) (l1 : Option Nat) : xI x xeV 240 [(1, va_rf l1)] [] (fJ29_deleteEntry_p240 l1) := by
  unfold fJ29_deleteEntry_p240
  refine xr_aload_n 0 (r := l1) F dJ29_deleteEntry_240 rfl ?_
  refine xr_null F dJ29_deleteEntry_241 ?_
  refine xr_put (r := l1) (ref := "java/util/TreeMap$Entry") F dJ29_deleteEntry_242 xk_36 (by decide) (Or.inl q3167) (Or.inl rfl) (Or.inl rfl) (xr_rf _ _) ?_
  exact xr_vret F dJ29_deleteEntry_245
theorem fJ29_deleteEntry_p192_ok {x : xC} (F : xF x RJ29 cJ29_deleteEntry none) (hnL : xnL x = 3) (hRm : ∃ dc ds, x.2.2.2.1 = { frames := 3, cells := dc, slots := ds, locals := 56 }) (hno : ∀ pc, xNo x pc) (hmn : xmn x = "deleteEntry" ∧ xmy x yJ29_deleteEntry) (l1 : Option Nat) : xI x xeV 192 [(1, va_rf l1)] [] (fJ29_deleteEntry_p192 l1) := by
  unfold fJ29_deleteEntry_p192
  refine xr_aload_n 0 (r := l1) F dJ29_deleteEntry_192 rfl ?_
  refine xr_gR (r := l1) (ref := "java/util/TreeMap$Entry") F dJ29_deleteEntry_193 (C := RJ47) (T := TJ47) (N := 6) rfl (by decide) (Or.inl q3167) (Or.inl rfl) (fun v193 => ?_)
  refine xr_ifnull 245 F dJ29_deleteEntry_196 rfl ?_ ?_
  · exact xr_vret F dJ29_deleteEntry_245
  · refine xr_aload_n 0 (r := l1) F dJ29_deleteEntry_199 rfl ?_
    refine xr_aload_n 0 (r := l1) F dJ29_deleteEntry_200 rfl ?_
    refine xr_gR (r := l1) (ref := "java/util/TreeMap$Entry") F dJ29_deleteEntry_201 (C := RJ47) (T := TJ47) (N := 6) rfl (by decide) (Or.inl q3167) (Or.inl rfl) (fun v201 => ?_)
    refine xr_gR (r := v201) (ref := "java/util/TreeMap$Entry") F dJ29_deleteEntry_204 (C := RJ47) (T := TJ47) (N := 6) rfl (by decide) (Or.inl q3164) (Or.inl rfl) (fun v204 => ?_)
    refine xr_acmp_ne 221 F dJ29_deleteEntry_207 rfl ?_ ?_
    · refine xr_aload_n 0 (r := l1) F dJ29_deleteEntry_210 rfl ?_
      refine xr_gR (r := l1) (ref := "java/util/TreeMap$Entry") F dJ29_deleteEntry_211 (C := RJ47) (T := TJ47) (N := 6) rfl (by decide) (Or.inl q3167) (Or.inl rfl) (fun v211 => ?_)
      refine xr_null F dJ29_deleteEntry_214 ?_
      refine xr_put (r := v211) (ref := "java/util/TreeMap$Entry") F dJ29_deleteEntry_215 xk_36 (by decide) (Or.inl q3164) (Or.inl rfl) (Or.inl rfl) (xr_rf _ _) ?_
      refine xr_goto 240 F dJ29_deleteEntry_218 rfl ?_
      exact xI.sub [0] rfl (fJ29_deleteEntry_p240_ok F hnL hRm hno hmn l1)
    · refine xr_aload_n 0 (r := l1) F dJ29_deleteEntry_221 rfl ?_
      refine xr_aload_n 0 (r := l1) F dJ29_deleteEntry_222 rfl ?_
      refine xr_gR (r := l1) (ref := "java/util/TreeMap$Entry") F dJ29_deleteEntry_223 (C := RJ47) (T := TJ47) (N := 6) rfl (by decide) (Or.inl q3167) (Or.inl rfl) (fun v223 => ?_)
      refine xr_gR (r := v223) (ref := "java/util/TreeMap$Entry") F dJ29_deleteEntry_226 (C := RJ47) (T := TJ47) (N := 6) rfl (by decide) (Or.inl q3165) (Or.inl rfl) (fun v226 => ?_)
      refine xr_acmp_ne 240 F dJ29_deleteEntry_229 rfl ?_ ?_
      · refine xr_aload_n 0 (r := l1) F dJ29_deleteEntry_232 rfl ?_
        refine xr_gR (r := l1) (ref := "java/util/TreeMap$Entry") F dJ29_deleteEntry_233 (C := RJ47) (T := TJ47) (N := 6) rfl (by decide) (Or.inl q3167) (Or.inl rfl) (fun v233 => ?_)
        refine xr_null F dJ29_deleteEntry_236 ?_
        refine xr_put (r := v233) (ref := "java/util/TreeMap$Entry") F dJ29_deleteEntry_237 xk_36 (by decide) (Or.inl q3165) (Or.inl rfl) (Or.inl rfl) (xr_rf _ _) ?_
        exact xI.sub [0] rfl (fJ29_deleteEntry_p240_ok F hnL hRm hno hmn l1)
      · exact xI.sub [0] rfl (fJ29_deleteEntry_p240_ok F hnL hRm hno hmn l1)
theorem fJ29_deleteEntry_p75_ok {x : xC} (F : xF x RJ29 cJ29_deleteEntry none) (hnL : xnL x = 3) (hRm : ∃ dc ds, x.2.2.2.1 = { frames := 3, cells := dc, slots := ds, locals := 56 }) (hno : ∀ pc, xNo x pc) (hmn : xmn x = "deleteEntry" ∧ xmy x yJ29_deleteEntry) (l0 : Nat) (l1 : Option Nat) (s0 : Option Nat) : xI x xeV 75 [(0, va_rf (some l0)), (1, va_rf l1)] [va_rf s0] (fJ29_deleteEntry_p75 l0 l1 s0) := by
  unfold fJ29_deleteEntry_p75
  refine xs_a_n [0, 1] F dJ29_deleteEntry_75 hnL rfl rfl (xk1 rfl rfl (xk2 rfl (xrf_cat _) xk0)) ?_
  refine xr_aload_n 0 (r := s0) F dJ29_deleteEntry_76 rfl ?_
  refine xr_ifnull 164 F dJ29_deleteEntry_77 rfl ?_ ?_
  · refine xr_aload_n 2 (r := l1) F dJ29_deleteEntry_164 rfl ?_
    refine xr_gR (r := l1) (ref := "java/util/TreeMap$Entry") F dJ29_deleteEntry_165 (C := RJ47) (T := TJ47) (N := 6) rfl (by decide) (Or.inl q3167) (Or.inl rfl) (fun v165 => ?_)
    refine xr_ifnonnull 179 F dJ29_deleteEntry_168 rfl ?_ ?_
    · refine xr_aload_n 1 (r := (some l0)) F dJ29_deleteEntry_171 rfl ?_
      refine xr_null F dJ29_deleteEntry_172 ?_
      refine xr_put (r := (some l0)) (ref := "java/util/TreeMap") F dJ29_deleteEntry_173 xk_16 (by decide) (Or.inl q1888) (Or.inl rfl) (Or.inl rfl) (xr_rf _ _) ?_
      refine xr_goto 245 F dJ29_deleteEntry_176 rfl ?_
      exact xr_vret F dJ29_deleteEntry_245
    · refine xr_aload_n 2 (r := l1) F dJ29_deleteEntry_179 rfl ?_
      refine xr_gI (r := l1) (ref := "java/util/TreeMap$Entry") F dJ29_deleteEntry_180 (C := RJ47) (T := TJ47) (N := 6) rfl (by decide) (Or.inl q3169) (Or.inl rfl) (fun v180 => ?_)
      refine xr_iconst (1 : Int32) F dJ29_deleteEntry_183 rfl ?_
      refine xr_icmp_ne 192 F dJ29_deleteEntry_184 rfl ?_ ?_
      · refine xr_aload_n 1 (r := (some l0)) F dJ29_deleteEntry_187 rfl ?_
        refine xr_aload_n 2 (r := l1) F dJ29_deleteEntry_188 rfl ?_
        refine xr_VV (y := yJ29_fixAfterDeletion) (As := [va_rf l1]) (r := (some l0)) F (hno _) dJ29_deleteEntry_189 (fun z => fJ29_fixAfterDeletion_m (xFG F) z l1) (Or.inl rfl) (ci := 16) (C := RJ29) (T := TJ29) rfl q1689 q1686 q1688 qs11 (xroom hRm (Nat.le_of_ble_eq_true rfl) (Nat.le_of_ble_eq_true rfl)) ⟨by decide, by decide⟩ n_J29_fixAfterDeletion rfl (xcat (Nat.le_of_ble_eq_true rfl)) (fun _ => ?_)
        exact xI.sub [2] rfl (fJ29_deleteEntry_p192_ok F hnL hRm hno hmn l1)
      · exact xI.sub [2] rfl (fJ29_deleteEntry_p192_ok F hnL hRm hno hmn l1)
  · refine xr_aload_n 0 (r := s0) F dJ29_deleteEntry_80 rfl ?_
    refine xr_aload_n 2 (r := l1) F dJ29_deleteEntry_81 rfl ?_
    refine xr_gR (r := l1) (ref := "java/util/TreeMap$Entry") F dJ29_deleteEntry_82 (C := RJ47) (T := TJ47) (N := 6) rfl (by decide) (Or.inl q3167) (Or.inl rfl) (fun v82 => ?_)
    refine xr_put (r := s0) (ref := "java/util/TreeMap$Entry") F dJ29_deleteEntry_85 xk_36 (by decide) (Or.inl q3167) (Or.inl rfl) (Or.inl rfl) (xr_rf _ _) ?_
    refine xr_aload_n 2 (r := l1) F dJ29_deleteEntry_88 rfl ?_
    refine xr_gR (r := l1) (ref := "java/util/TreeMap$Entry") F dJ29_deleteEntry_89 (C := RJ47) (T := TJ47) (N := 6) rfl (by decide) (Or.inl q3167) (Or.inl rfl) (fun v89 => ?_)
    refine xr_ifnonnull 103 F dJ29_deleteEntry_92 rfl ?_ ?_
    · refine xr_aload_n 1 (r := (some l0)) F dJ29_deleteEntry_95 rfl ?_
      refine xr_aload_n 0 (r := s0) F dJ29_deleteEntry_96 rfl ?_
      refine xr_put (r := (some l0)) (ref := "java/util/TreeMap") F dJ29_deleteEntry_97 xk_16 (by decide) (Or.inl q1888) (Or.inl rfl) (Or.inl rfl) (xr_rf _ _) ?_
      refine xr_goto 133 F dJ29_deleteEntry_100 rfl ?_
      exact xI.sub [1, 2, 0] rfl (fJ29_deleteEntry_p133_ok F hnL hRm hno hmn l0 l1 s0)
    · refine xr_aload_n 2 (r := l1) F dJ29_deleteEntry_103 rfl ?_
      refine xr_aload_n 2 (r := l1) F dJ29_deleteEntry_104 rfl ?_
      refine xr_gR (r := l1) (ref := "java/util/TreeMap$Entry") F dJ29_deleteEntry_105 (C := RJ47) (T := TJ47) (N := 6) rfl (by decide) (Or.inl q3167) (Or.inl rfl) (fun v105 => ?_)
      refine xr_gR (r := v105) (ref := "java/util/TreeMap$Entry") F dJ29_deleteEntry_108 (C := RJ47) (T := TJ47) (N := 6) rfl (by decide) (Or.inl q3164) (Or.inl rfl) (fun v108 => ?_)
      refine xr_acmp_ne 125 F dJ29_deleteEntry_111 rfl ?_ ?_
      · refine xr_aload_n 2 (r := l1) F dJ29_deleteEntry_114 rfl ?_
        refine xr_gR (r := l1) (ref := "java/util/TreeMap$Entry") F dJ29_deleteEntry_115 (C := RJ47) (T := TJ47) (N := 6) rfl (by decide) (Or.inl q3167) (Or.inl rfl) (fun v115 => ?_)
        refine xr_aload_n 0 (r := s0) F dJ29_deleteEntry_118 rfl ?_
        refine xr_put (r := v115) (ref := "java/util/TreeMap$Entry") F dJ29_deleteEntry_119 xk_36 (by decide) (Or.inl q3164) (Or.inl rfl) (Or.inl rfl) (xr_rf _ _) ?_
        refine xr_goto 133 F dJ29_deleteEntry_122 rfl ?_
        exact xI.sub [1, 2, 0] rfl (fJ29_deleteEntry_p133_ok F hnL hRm hno hmn l0 l1 s0)
      · refine xr_aload_n 2 (r := l1) F dJ29_deleteEntry_125 rfl ?_
        refine xr_gR (r := l1) (ref := "java/util/TreeMap$Entry") F dJ29_deleteEntry_126 (C := RJ47) (T := TJ47) (N := 6) rfl (by decide) (Or.inl q3167) (Or.inl rfl) (fun v126 => ?_)
        refine xr_aload_n 0 (r := s0) F dJ29_deleteEntry_129 rfl ?_
        refine xr_put (r := v126) (ref := "java/util/TreeMap$Entry") F dJ29_deleteEntry_130 xk_36 (by decide) (Or.inl q3165) (Or.inl rfl) (Or.inl rfl) (xr_rf _ _) ?_
        exact xI.sub [1, 2, 0] rfl (fJ29_deleteEntry_p133_ok F hnL hRm hno hmn l0 l1 s0)
theorem fJ29_deleteEntry_p57_ok {x : xC} (F : xF x RJ29 cJ29_deleteEntry none) (hnL : xnL x = 3) (hRm : ∃ dc ds, x.2.2.2.1 = { frames := 3, cells := dc, slots := ds, locals := 56 }) (hno : ∀ pc, xNo x pc) (hmn : xmn x = "deleteEntry" ∧ xmy x yJ29_deleteEntry) (l0 : Nat) (l1 : Option Nat) : xI x xeV 57 [(0, va_rf (some l0)), (1, va_rf l1)] [] (fJ29_deleteEntry_p57 l0 l1) := by
  unfold fJ29_deleteEntry_p57
  refine xr_aload_n 1 (r := l1) F dJ29_deleteEntry_57 rfl ?_
  refine xr_gR (r := l1) (ref := "java/util/TreeMap$Entry") F dJ29_deleteEntry_58 (C := RJ47) (T := TJ47) (N := 6) rfl (by decide) (Or.inl q3164) (Or.inl rfl) (fun v58 => ?_)
  refine xr_ifnull 71 F dJ29_deleteEntry_61 rfl ?_ ?_
  · refine xr_aload_n 1 (r := l1) F dJ29_deleteEntry_71 rfl ?_
    refine xr_gR (r := l1) (ref := "java/util/TreeMap$Entry") F dJ29_deleteEntry_72 (C := RJ47) (T := TJ47) (N := 6) rfl (by decide) (Or.inl q3165) (Or.inl rfl) (fun v72 => ?_)
    exact xI.sub [0, 1] rfl (fJ29_deleteEntry_p75_ok F hnL hRm hno hmn l0 l1 v72)
  · refine xr_aload_n 1 (r := l1) F dJ29_deleteEntry_64 rfl ?_
    refine xr_gR (r := l1) (ref := "java/util/TreeMap$Entry") F dJ29_deleteEntry_65 (C := RJ47) (T := TJ47) (N := 6) rfl (by decide) (Or.inl q3164) (Or.inl rfl) (fun v65 => ?_)
    refine xr_goto 75 F dJ29_deleteEntry_68 rfl ?_
    exact xI.sub [0, 1] rfl (fJ29_deleteEntry_p75_ok F hnL hRm hno hmn l0 l1 v65)
theorem fJ29_deleteEntry_m {l : Launch} {D : xD} {s0 : State} {b0 : Nat} {Γ : Nat → Option Nat} (G : xG l D s0 b0 Γ) (a0 : Nat) (p0 : Option Nat) : xMeth l D s0 Γ yJ29_deleteEntry (Cond.code yJ29_deleteEntry cJ29_deleteEntry 3 none) (3) (56) [.ref a0, va_rf p0] xeV (fJ29_deleteEntry a0 p0) := by
  refine xMeth.of (lv0 := [(0, va_rf (some a0)), (1, va_rf p0)]) G (by decide +kernel) (Or.inl rfl) (by simp [lg_sl, xrf_cat, xct_i, xct_l, xct_d, xct_r]) (by simp [lv_args, xrf_cat, xct_i, xct_l, xct_d, xct_r, xrf_some]) (fun x F hnL hRm hmn ht e1 e2 e3 e4 => ?_)
  have hno : ∀ pc, xNo x pc := fun pc z hz => by rw [ht.1 rfl] at hz; cases hz
  unfold fJ29_deleteEntry
  refine xr_aload_n 0 (r := (some a0)) F dJ29_deleteEntry_0 rfl ?_
  refine xr_dup F dJ29_deleteEntry_1 (xrf_cat _) ?_
  refine xr_gI (r := (some a0)) (ref := "java/util/TreeMap") F dJ29_deleteEntry_2 (C := RJ29) (T := TJ29) (N := 9) rfl (by decide) (Or.inl q1890) (Or.inl rfl) (fun v2 => ?_)
  refine xr_iconst (1 : Int32) F dJ29_deleteEntry_5 rfl ?_
  refine xr_iadd F dJ29_deleteEntry_6 ?_
  refine xr_put (r := (some a0)) (ref := "java/util/TreeMap") F dJ29_deleteEntry_7 xk_16 (by decide) (Or.inl q1890) (Or.inl rfl) (Or.inl rfl) ⟨rfl, rfl⟩ ?_
  refine xr_aload_n 0 (r := (some a0)) F dJ29_deleteEntry_10 rfl ?_
  refine xr_dup F dJ29_deleteEntry_11 (xrf_cat _) ?_
  refine xr_gI (r := (some a0)) (ref := "java/util/TreeMap") F dJ29_deleteEntry_12 (C := RJ29) (T := TJ29) (N := 9) rfl (by decide) (Or.inl q1889) (Or.inl rfl) (fun v12 => ?_)
  refine xr_iconst (1 : Int32) F dJ29_deleteEntry_15 rfl ?_
  refine xr_isub F dJ29_deleteEntry_16 ?_
  refine xr_put (r := (some a0)) (ref := "java/util/TreeMap") F dJ29_deleteEntry_17 xk_16 (by decide) (Or.inl q1889) (Or.inl rfl) (Or.inl rfl) ⟨rfl, rfl⟩ ?_
  refine xr_aload_n 1 (r := p0) F dJ29_deleteEntry_20 rfl ?_
  refine xr_gR (r := p0) (ref := "java/util/TreeMap$Entry") F dJ29_deleteEntry_21 (C := RJ47) (T := TJ47) (N := 6) rfl (by decide) (Or.inl q3164) (Or.inl rfl) (fun v21 => ?_)
  refine xr_ifnull 57 F dJ29_deleteEntry_24 rfl ?_ ?_
  · exact xI.sub [0, 1] rfl (fJ29_deleteEntry_p57_ok F hnL hRm hno hmn a0 p0)
  · refine xr_aload_n 1 (r := p0) F dJ29_deleteEntry_27 rfl ?_
    refine xr_gR (r := p0) (ref := "java/util/TreeMap$Entry") F dJ29_deleteEntry_28 (C := RJ47) (T := TJ47) (N := 6) rfl (by decide) (Or.inl q3165) (Or.inl rfl) (fun v28 => ?_)
    refine xr_ifnull 57 F dJ29_deleteEntry_31 rfl ?_ ?_
    · exact xI.sub [0, 1] rfl (fJ29_deleteEntry_p57_ok F hnL hRm hno hmn a0 p0)
    · refine xr_aload_n 1 (r := p0) F dJ29_deleteEntry_34 rfl ?_
      refine xr_SR (y := yJ29_successor) (As := [va_rf p0]) F (hno _) dJ29_deleteEntry_35 (fJ29_successor_m (xFG F) p0) (Or.inl rfl) q1136 q157 (Or.inl q1685) q1135 (xroom hRm (Nat.le_of_ble_eq_true rfl) (Nat.le_of_ble_eq_true rfl)) ⟨by decide, by decide⟩ n_J29_successor rfl (xcat (Nat.le_of_ble_eq_true rfl)) (fun v35 => ?_)
      refine xs_a_n [0, 1] F dJ29_deleteEntry_38 hnL rfl rfl (xk1 rfl rfl (xk2 rfl (xrf_cat _) xk0)) ?_
      refine xr_aload_n 2 (r := p0) F dJ29_deleteEntry_39 rfl ?_
      refine xr_aload_n 0 (r := v35) F dJ29_deleteEntry_40 rfl ?_
      refine xr_gR (r := v35) (ref := "java/util/TreeMap$Entry") F dJ29_deleteEntry_41 (C := RJ47) (T := TJ47) (N := 6) rfl (by decide) (Or.inl q3160) (Or.inl rfl) (fun v41 => ?_)
      refine xr_put (r := p0) (ref := "java/util/TreeMap$Entry") F dJ29_deleteEntry_44 xk_36 (by decide) (Or.inl q3160) (Or.inl rfl) (Or.inl rfl) (xr_rf _ _) ?_
      refine xr_aload_n 2 (r := p0) F dJ29_deleteEntry_47 rfl ?_
      refine xr_aload_n 0 (r := v35) F dJ29_deleteEntry_48 rfl ?_
      refine xr_gR (r := v35) (ref := "java/util/TreeMap$Entry") F dJ29_deleteEntry_49 (C := RJ47) (T := TJ47) (N := 6) rfl (by decide) (Or.inl q3163) (Or.inl rfl) (fun v49 => ?_)
      refine xr_put (r := p0) (ref := "java/util/TreeMap$Entry") F dJ29_deleteEntry_52 xk_36 (by decide) (Or.inl q3163) (Or.inl rfl) (Or.inl rfl) (xr_rf _ _) ?_
      refine xr_aload_n 0 (r := v35) F dJ29_deleteEntry_55 rfl ?_
      refine xs_a_n [1] F dJ29_deleteEntry_56 hnL rfl rfl (xk2 rfl (xrf_cat _) xk0) ?_
      exact xI.sub [1, 0] rfl (fJ29_deleteEntry_p57_ok F hnL hRm hno hmn a0 v35)
theorem fJ29_remove_m {l : Launch} {D : xD} {s0 : State} {b0 : Nat} {Γ : Nat → Option Nat} (G : xG l D s0 b0 Γ) (a0 : Nat) (p0 : Option Nat) : xMeth l D s0 Γ yJ29_remove (Cond.code yJ29_remove cJ29_remove 4 (some (.object "java/lang/Object"))) (7) (147) [.ref a0, va_rf p0] xeR (fJ29_remove a0 p0) := by
  refine xMeth.of (lv0 := [(0, va_rf (some a0)), (1, va_rf p0)]) G (by decide +kernel) (Or.inl rfl) (by simp [lg_sl, xrf_cat, xct_i, xct_l, xct_d, xct_r]) (by simp [lv_args, xrf_cat, xct_i, xct_l, xct_d, xct_r, xrf_some]) (fun x F hnL hRm hmn ht e1 e2 e3 e4 => ?_)
  have hno : ∀ pc, xNo x pc := fun pc z hz => by rw [ht.1 rfl] at hz; cases hz
  unfold fJ29_remove
  refine xr_aload_n 0 (r := (some a0)) F dJ29_remove_0 rfl ?_
  refine xr_aload_n 1 (r := p0) F dJ29_remove_1 rfl ?_
  refine xr_VR (y := yJ29_getEntry) (As := [va_rf p0]) (r := (some a0)) F (hno _) dJ29_remove_2 (fun z => fJ29_getEntry_m (xFG F) z p0) (Or.inl rfl) (ci := 16) (C := RJ29) (T := TJ29) rfl q1329 q1326 q1327 q1328 (xroom hRm (Nat.le_of_ble_eq_true rfl) (Nat.le_of_ble_eq_true rfl)) ⟨by decide, by decide⟩ n_J29_getEntry rfl (xcat (Nat.le_of_ble_eq_true rfl)) (fun v2 => ?_)
  refine xs_a_n [0] F dJ29_remove_5 hnL rfl rfl (xk1 rfl rfl xk0) ?_
  refine xr_aload_n 0 (r := v2) F dJ29_remove_6 rfl ?_
  refine xr_ifnonnull 12 F dJ29_remove_7 rfl ?_ ?_
  · refine xr_null F dJ29_remove_10 ?_
    exact xr_aret (v := none) F dJ29_remove_11 (Or.inl ⟨_, rfl⟩)
  · refine xr_aload_n 0 (r := v2) F dJ29_remove_12 rfl ?_
    refine xr_gR (r := v2) (ref := "java/util/TreeMap$Entry") F dJ29_remove_13 (C := RJ47) (T := TJ47) (N := 6) rfl (by decide) (Or.inl q3163) (Or.inl rfl) (fun v13 => ?_)
    refine xs_a_n [0, 1] F dJ29_remove_16 hnL rfl rfl (xk2 rfl (xrf_cat _) (xk1 rfl rfl xk0)) ?_
    refine xr_aload_n 2 (r := (some a0)) F dJ29_remove_17 rfl ?_
    refine xr_aload_n 1 (r := v2) F dJ29_remove_18 rfl ?_
    refine xr_VV (y := yJ29_deleteEntry) (As := [va_rf v2]) (r := (some a0)) F (hno _) dJ29_remove_19 (fun z => fJ29_deleteEntry_m (xFG F) z v2) (Or.inl rfl) (ci := 16) (C := RJ29) (T := TJ29) rfl q1684 q1680 q1682 qs10 (xroom hRm (Nat.le_of_ble_eq_true rfl) (Nat.le_of_ble_eq_true rfl)) ⟨by decide, by decide⟩ n_J29_deleteEntry rfl (xcat (Nat.le_of_ble_eq_true rfl)) (fun _ => ?_)
    refine xr_aload_n 0 (r := v13) F dJ29_remove_22 rfl ?_
    exact xr_aret (v := v13) F dJ29_remove_23 (Or.inl ⟨_, rfl⟩)
theorem fJ0_isEmpty__J19_m {l : Launch} {D : xD} {s0 : State} {b0 : Nat} {Γ : Nat → Option Nat} (G : xG l D s0 b0 Γ) (a0 : Nat) : xMeth l D s0 Γ yJ0_isEmpty (Cond.code yJ0_isEmpty cJ0_isEmpty 1 (some .boolean)) (2) (32) [.ref a0] xeI (fJ0_isEmpty__J19 a0) := by
  refine xMeth.of (lv0 := [(0, va_rf (some a0))]) G (by decide +kernel) (Or.inl rfl) (Nat.le_of_ble_eq_true rfl) rfl (fun x F hnL hRm hmn ht e1 e2 e3 e4 => ?_)
  have hno : ∀ pc, xNo x pc := fun pc z hz => by rw [ht.1 rfl] at hz; cases hz
  unfold fJ0_isEmpty__J19
  refine xr_aload_n 0 (r := (some a0)) F dJ0_isEmpty_0 rfl ?_
  refine xr_UI (x0 := ⟨"java/util/AbstractCollection", "size", "()I"⟩) (y := yJ19_size) (As := []) (r := (some a0)) F (hno _) dJ0_isEmpty_1 (fun z => fJ19_size_m (xFG F) z) rfl (ci := 6) (C := RJ19) (T := TJ19) rfl q841 q1653 q840 q3994 q3991 (Or.inr q835) (xroom hRm (Nat.le_of_ble_eq_true rfl) (Nat.le_of_ble_eq_true rfl)) ⟨by decide, by decide⟩ n_J19_size rfl (xcat (Nat.le_of_ble_eq_true rfl)) (fun v1 => ?_)
  refine xr_if_ne 11 F dJ0_isEmpty_4 rfl ?_ ?_
  · refine xr_iconst (1 : Int32) F dJ0_isEmpty_7 rfl ?_
    refine xr_goto 12 F dJ0_isEmpty_8 rfl ?_
    exact xr_zret F dJ0_isEmpty_12 rfl
  · refine xr_iconst (0 : Int32) F dJ0_isEmpty_11 rfl ?_
    exact xr_zret F dJ0_isEmpty_12 rfl
theorem fJ19_unlinkLast_p42_ok {x : xC} (F : xF x RJ19 cJ19_unlinkLast (some (.object "java/lang/Object"))) (hnL : xnL x = 4) (hRm : ∃ dc ds, x.2.2.2.1 = { frames := 1, cells := dc, slots := ds, locals := 12 }) (hno : ∀ pc, xNo x pc) (hmn : xmn x = "unlinkLast" ∧ xmy x yJ19_unlinkLast) (l0 : Nat) (l2 : Option Nat) : xI x xeR 42 [(0, va_rf (some l0)), (2, va_rf l2)] [] (fJ19_unlinkLast_p42 l0 l2) := by
  unfold fJ19_unlinkLast_p42
  refine xr_aload_n 0 (r := (some l0)) F dJ19_unlinkLast_42 rfl ?_
  refine xr_dup F dJ19_unlinkLast_43 (xrf_cat _) ?_
  refine xr_gI (r := (some l0)) (ref := "java/util/LinkedList") F dJ19_unlinkLast_44 (C := RJ19) (T := TJ19) (N := 4) rfl (by decide) (Or.inl q571) (Or.inl rfl) (fun v44 => ?_)
  refine xr_iconst (1 : Int32) F dJ19_unlinkLast_47 rfl ?_
  refine xr_isub F dJ19_unlinkLast_48 ?_
  refine xr_put (r := (some l0)) (ref := "java/util/LinkedList") F dJ19_unlinkLast_49 xk_6 (by decide) (Or.inl q571) (Or.inl rfl) (Or.inl rfl) ⟨rfl, rfl⟩ ?_
  refine xr_aload_n 0 (r := (some l0)) F dJ19_unlinkLast_52 rfl ?_
  refine xr_dup F dJ19_unlinkLast_53 (xrf_cat _) ?_
  refine xr_gI (r := (some l0)) (ref := "java/util/LinkedList") F dJ19_unlinkLast_54 (C := RJ19) (T := TJ19) (N := 4) rfl (by decide) (Or.inl q553) (Or.inr q549) (fun v54 => ?_)
  refine xr_iconst (1 : Int32) F dJ19_unlinkLast_57 rfl ?_
  refine xr_iadd F dJ19_unlinkLast_58 ?_
  refine xr_put (r := (some l0)) (ref := "java/util/LinkedList") F dJ19_unlinkLast_59 xk_6 (by decide) (Or.inl q553) (Or.inr q549) (Or.inl rfl) ⟨rfl, rfl⟩ ?_
  refine xr_aload_n 1 (r := l2) F dJ19_unlinkLast_62 rfl ?_
  exact xr_aret (v := l2) F dJ19_unlinkLast_63 (Or.inl ⟨_, rfl⟩)
theorem fJ19_unlinkLast_m {l : Launch} {D : xD} {s0 : State} {b0 : Nat} {Γ : Nat → Option Nat} (G : xG l D s0 b0 Γ) (a0 : Nat) (p0 : Option Nat) : xMeth l D s0 Γ yJ19_unlinkLast (Cond.code yJ19_unlinkLast cJ19_unlinkLast 4 (some (.object "java/lang/Object"))) (1) (12) [.ref a0, va_rf p0] xeR (fJ19_unlinkLast a0 p0) := by
  refine xMeth.of (lv0 := [(0, va_rf (some a0)), (1, va_rf p0)]) G (by decide +kernel) (Or.inl rfl) (by simp [lg_sl, xrf_cat, xct_i, xct_l, xct_d, xct_r]) (by simp [lv_args, xrf_cat, xct_i, xct_l, xct_d, xct_r, xrf_some]) (fun x F hnL hRm hmn ht e1 e2 e3 e4 => ?_)
  have hno : ∀ pc, xNo x pc := fun pc z hz => by rw [ht.1 rfl] at hz; cases hz
  unfold fJ19_unlinkLast
  refine xr_aload_n 1 (r := p0) F dJ19_unlinkLast_0 rfl ?_
  refine xr_gR (r := p0) (ref := "java/util/LinkedList$Node") F dJ19_unlinkLast_1 (C := RJ30) (T := TJ30) (N := 3) rfl (by decide) (Or.inl q2124) (Or.inl rfl) (fun v1 => ?_)
  refine xs_a_n [0, 1] F dJ19_unlinkLast_4 hnL rfl rfl (xk1 rfl rfl (xk2 rfl (xrf_cat _) xk0)) ?_
  refine xr_aload_n 2 (r := p0) F dJ19_unlinkLast_5 rfl ?_
  refine xr_gR (r := p0) (ref := "java/util/LinkedList$Node") F dJ19_unlinkLast_6 (C := RJ30) (T := TJ30) (N := 3) rfl (by decide) (Or.inl q2129) (Or.inl rfl) (fun v6 => ?_)
  refine xs_a_n [0, 1, 2] F dJ19_unlinkLast_9 hnL rfl rfl (xk2 rfl (xrf_cat _) (xk1 rfl rfl (xk1 rfl rfl xk0))) ?_
  refine xr_aload_n 3 (r := p0) F dJ19_unlinkLast_10 rfl ?_
  refine xr_null F dJ19_unlinkLast_11 ?_
  refine xr_put (r := p0) (ref := "java/util/LinkedList$Node") F dJ19_unlinkLast_12 xk_25 (by decide) (Or.inl q2124) (Or.inl rfl) (Or.inl rfl) (xr_rf _ _) ?_
  refine xr_aload_n 3 (r := p0) F dJ19_unlinkLast_15 rfl ?_
  refine xr_null F dJ19_unlinkLast_16 ?_
  refine xr_put (r := p0) (ref := "java/util/LinkedList$Node") F dJ19_unlinkLast_17 xk_25 (by decide) (Or.inl q2129) (Or.inl rfl) (Or.inl rfl) (xr_rf _ _) ?_
  refine xr_aload_n 2 (r := (some a0)) F dJ19_unlinkLast_20 rfl ?_
  refine xr_aload_n 0 (r := v6) F dJ19_unlinkLast_21 rfl ?_
  refine xr_put (r := (some a0)) (ref := "java/util/LinkedList") F dJ19_unlinkLast_22 xk_6 (by decide) (Or.inl q574) (Or.inl rfl) (Or.inl rfl) (xr_rf _ _) ?_
  refine xr_aload_n 0 (r := v6) F dJ19_unlinkLast_25 rfl ?_
  refine xr_ifnonnull 37 F dJ19_unlinkLast_26 rfl ?_ ?_
  · refine xr_aload_n 2 (r := (some a0)) F dJ19_unlinkLast_29 rfl ?_
    refine xr_null F dJ19_unlinkLast_30 ?_
    refine xr_put (r := (some a0)) (ref := "java/util/LinkedList") F dJ19_unlinkLast_31 xk_6 (by decide) (Or.inl q573) (Or.inl rfl) (Or.inl rfl) (xr_rf _ _) ?_
    refine xr_goto 42 F dJ19_unlinkLast_34 rfl ?_
    exact xI.sub [2, 1] rfl (fJ19_unlinkLast_p42_ok F hnL hRm hno hmn a0 v1)
  · refine xr_aload_n 0 (r := v6) F dJ19_unlinkLast_37 rfl ?_
    refine xr_null F dJ19_unlinkLast_38 ?_
    refine xr_put (r := v6) (ref := "java/util/LinkedList$Node") F dJ19_unlinkLast_39 xk_25 (by decide) (Or.inl q2127) (Or.inl rfl) (Or.inl rfl) (xr_rf _ _) ?_
    exact xI.sub [2, 1] rfl (fJ19_unlinkLast_p42_ok F hnL hRm hno hmn a0 v1)
theorem fJ19_removeLast_m {l : Launch} {D : xD} {s0 : State} {b0 : Nat} {Γ : Nat → Option Nat} (G : xG l D s0 b0 Γ) (a0 : Nat) : xMeth l D s0 Γ yJ19_removeLast (Cond.code yJ19_removeLast cJ19_removeLast 2 (some (.object "java/lang/Object"))) (2) (35) [.ref a0] xeR (fJ19_removeLast a0) := by
  refine xMeth.of (lv0 := [(0, va_rf (some a0))]) G (by decide +kernel) (Or.inl rfl) (Nat.le_of_ble_eq_true rfl) rfl (fun x F hnL hRm hmn ht e1 e2 e3 e4 => ?_)
  have hno : ∀ pc, xNo x pc := fun pc z hz => by rw [ht.1 rfl] at hz; cases hz
  unfold fJ19_removeLast
  refine xr_aload_n 0 (r := (some a0)) F dJ19_removeLast_0 rfl ?_
  refine xr_gR (r := (some a0)) (ref := "java/util/LinkedList") F dJ19_removeLast_1 (C := RJ19) (T := TJ19) (N := 4) rfl (by decide) (Or.inl q574) (Or.inl rfl) (fun v1 => ?_)
  refine xs_a_n [0] F dJ19_removeLast_4 hnL rfl rfl (xk2 rfl (xrf_cat _) xk0) ?_
  refine xr_aload_n 0 (r := v1) F dJ19_removeLast_5 rfl ?_
  refine xr_ifnonnull 17 F dJ19_removeLast_6 rfl ?_ ?_
  · exact xI.stuck
  · refine xr_aload_n 1 (r := (some a0)) F dJ19_removeLast_17 rfl ?_
    refine xr_aload_n 0 (r := v1) F dJ19_removeLast_18 rfl ?_
    refine xr_VR (y := yJ19_unlinkLast) (As := [va_rf v1]) (r := (some a0)) F (hno _) dJ19_removeLast_19 (fun z => fJ19_unlinkLast_m (xFG F) z v1) (Or.inl rfl) (ci := 6) (C := RJ19) (T := TJ19) rfl q1674 q1671 q1673 qs9 (xroom hRm (Nat.le_of_ble_eq_true rfl) (Nat.le_of_ble_eq_true rfl)) ⟨by decide, by decide⟩ n_J19_unlinkLast rfl (xcat (Nat.le_of_ble_eq_true rfl)) (fun v19 => ?_)
    exact xr_aret (v := v19) F dJ19_removeLast_22 (Or.inl ⟨_, rfl⟩)
theorem fX1_undo_p58_ok {x : xC} (F : xF x RX1 cX1_undo (some .int)) (hnL : xnL x = 6) (hRm : ∃ dc ds, x.2.2.2.1 = { frames := 8, cells := dc, slots := ds, locals := 170 }) (hno : ∀ pc, xNo x pc) (hmn : xmn x = "undo" ∧ xmy x yX1_undo) {k33 : Nat → Option Nat → Option Nat → xM (Int32)} (hk33 : ∀ (l0 : Nat) (l1 : Option Nat) (l2 : Option Nat), xI x xeI 33 [(0, va_rf (some l0)), (1, va_rf l1), (2, va_rf l2)] [] (k33 l0 l1 l2)) : ∀ (n : Nat) (l0 : Nat) (l1 : Option Nat) (l2 : Option Nat) (l3 : Option Nat) (l4 : Int32), xI x xeI 58 [(0, va_rf (some l0)), (1, va_rf l1), (2, va_rf l2), (3, va_rf l3), (4, .int l4)] [] (fX1_undo_p58 k33 n l0 l1 l2 l3 l4) := by
  intro n
  induction n with
  | zero => intro l0 l1 l2 l3 l4; exact xI.stuck
  | succ n ih =>
    intro l0 l1 l2 l3 l4
    unfold fX1_undo_p58
    refine xr_iload 4 F dX1_undo_58 rfl ?_
    refine xr_aload_n 0 (r := (some l0)) F dX1_undo_60 rfl ?_
    refine xr_gR (r := (some l0)) (ref := "ReserveLedger") F dX1_undo_61 (C := RX1) (T := TX1) (N := 7) rfl (by decide) (Or.inl q614) (Or.inl rfl) (fun v61 => ?_)
    refine xr_gI (r := v61) (ref := "ReserveLedger$State") F dX1_undo_64 (C := RX2) (T := TX2) (N := 5) rfl (by decide) (Or.inr ⟨_, q589⟩) (Or.inl rfl) (fun v64 => ?_)
    refine xr_icmp_ge 96 F dX1_undo_67 rfl ?_ ?_
    · refine xr_goto 33 F dX1_undo_96 rfl ?_
      exact xI.sub [0, 1, 2] rfl (hk33 l0 l1 l2)
    · refine xr_aload_n 3 (r := l3) F dX1_undo_70 rfl ?_
      refine xr_gR (r := l3) (ref := "ReserveLedger$Herd") F dX1_undo_71 (C := RX6) (T := TX6) (N := 8) rfl (by decide) (Or.inr ⟨_, q2037⟩) (Or.inl rfl) (fun v71 => ?_)
      refine xr_gR (r := v71) (ref := "ReserveLedger$Species") F dX1_undo_74 (C := RX7) (T := TX7) (N := 6) rfl (by decide) (Or.inr ⟨_, q1935⟩) (Or.inl rfl) (fun v74 => ?_)
      refine xr_iload 4 F dX1_undo_77 rfl ?_
      refine xr_SR (y := yJ17_valueOf) (As := [.int l4]) F (hno _) dX1_undo_79 (fJ17_valueOf_m (xFG F) l4) (Or.inl rfl) q1304 q141 (Or.inl q1675) q1303 (xroom hRm (Nat.le_of_ble_eq_true rfl) (Nat.le_of_ble_eq_true rfl)) ⟨by decide, by decide⟩ n_J17_valueOf rfl (xcat (Nat.le_of_ble_eq_true rfl)) (fun v79 => ?_)
      refine xr_VR (y := yJ29_remove) (As := [va_rf v79]) (r := v74) F (hno _) dX1_undo_82 (fun z => fJ29_remove_m (xFG F) z v79) (Or.inl rfl) (ci := 16) (C := RJ29) (T := TJ29) rfl q1679 q1676 q1677 q1678 (xroom hRm (Nat.le_of_ble_eq_true rfl) (Nat.le_of_ble_eq_true rfl)) ⟨by decide, by decide⟩ n_J29_remove rfl (xcat (Nat.le_of_ble_eq_true rfl)) (fun v82 => ?_)
      refine xr_castE (ci := 22) (r := v82) F dX1_undo_85 q1293 rfl ?_
      refine xs_a [0, 1, 2, 3, 4] F dX1_undo_88 hnL rfl rfl (xk1 rfl rfl (xk1 rfl rfl (xk1 rfl rfl (xk1 rfl rfl (xk2 rfl rfl xk0))))) ?_
      refine xs_inc [5, 1, 2, 3, 4] F dX1_undo_90 rfl hnL rfl rfl (xk1 rfl rfl (xk1 rfl rfl (xk1 rfl rfl (xk2 rfl (xrf_cat _) xk0)))) (fun x4_90 => ?_)
      refine xr_goto 58 F dX1_undo_93 rfl ?_
      exact xI.sub [1, 2, 3, 4, 0] rfl (ih l0 l1 l2 l3 x4_90)
theorem fX1_undo_p33_ok {x : xC} (F : xF x RX1 cX1_undo (some .int)) (hnL : xnL x = 6) (hRm : ∃ dc ds, x.2.2.2.1 = { frames := 8, cells := dc, slots := ds, locals := 170 }) (hno : ∀ pc, xNo x pc) (hmn : xmn x = "undo" ∧ xmy x yX1_undo) : ∀ (n : Nat) (l0 : Nat) (l1 : Option Nat) (l2 : Option Nat), xI x xeI 33 [(0, va_rf (some l0)), (1, va_rf l1), (2, va_rf l2)] [] (fX1_undo_p33 n l0 l1 l2) := by
  intro n
  induction n with
  | zero => intro l0 l1 l2; exact xI.stuck
  | succ n ih =>
    intro l0 l1 l2
    unfold fX1_undo_p33
    refine xr_aload_n 2 (r := l2) F dX1_undo_33 rfl ?_
    refine xr_FI (x0 := ⟨"java/util/Iterator", "hasNext", "()Z"⟩) (y := yJ20_hasNext) (As := []) (r := l2) F (hno _) dX1_undo_34 (fun z => fJ20_hasNext_m (xFG F) z) rfl (ci := 7) (C := RJ20) (T := TJ20) rfl q853 q824 q851 q849 q826 q825 q852 q850 q848 (xroom hRm (Nat.le_of_ble_eq_true rfl) (Nat.le_of_ble_eq_true rfl)) ⟨by decide, by decide⟩ n_J20_hasNext rfl (xcat (Nat.le_of_ble_eq_true rfl)) (fun v34 => ?_)
    refine xr_if_eq 99 F dX1_undo_39 rfl ?_ ?_
    · refine xr_aload_n 0 (r := (some l0)) F dX1_undo_99 rfl ?_
      refine xr_aload_n 1 (r := l1) F dX1_undo_100 rfl ?_
      refine xr_put (r := (some l0)) (ref := "ReserveLedger") F dX1_undo_101 xk_0 (by decide) (Or.inl q614) (Or.inl rfl) (Or.inl rfl) (xr_rf _ _) ?_
      refine xr_aload_n 0 (r := (some l0)) F dX1_undo_104 rfl ?_
      refine xr_gR (r := (some l0)) (ref := "ReserveLedger") F dX1_undo_105 (C := RX1) (T := TX1) (N := 7) rfl (by decide) (Or.inl q615) (Or.inl rfl) (fun v105 => ?_)
      refine xr_VI (y := yJ19_size) (As := []) (r := v105) F (hno _) dX1_undo_108 (fun z => fJ19_size_m (xFG F) z) (Or.inl rfl) (ci := 6) (C := RJ19) (T := TJ19) rfl q841 q1713 q840 q3998 (xroom hRm (Nat.le_of_ble_eq_true rfl) (Nat.le_of_ble_eq_true rfl)) ⟨by decide, by decide⟩ n_J19_size rfl (xcat (Nat.le_of_ble_eq_true rfl)) (fun v108 => ?_)
      exact xr_iret F dX1_undo_111
    · refine xr_aload_n 2 (r := l2) F dX1_undo_42 rfl ?_
      refine xr_FR (x0 := ⟨"java/util/Iterator", "next", "()Ljava/lang/Object;"⟩) (y := yJ20_next) (As := []) (r := l2) F (hno _) dX1_undo_43 (fun z => fJ20_next_m (xFG F) z) rfl (ci := 7) (C := RJ20) (T := TJ20) rfl q1075 q883 q1073 q1071 q885 q884 q1074 q1072 q848 (xroom hRm (Nat.le_of_ble_eq_true rfl) (Nat.le_of_ble_eq_true rfl)) ⟨by decide, by decide⟩ n_J20_next rfl (xcat (Nat.le_of_ble_eq_true rfl)) (fun v43 => ?_)
      refine xr_castE (ci := 19) (r := v43) F dX1_undo_48 q1145 rfl ?_
      refine xs_a_n [0, 1, 2] F dX1_undo_51 hnL rfl rfl (xk1 rfl rfl (xk1 rfl rfl (xk2 rfl (xrf_cat _) xk0))) ?_
      refine xr_aload_n 2 (r := l1) F dX1_undo_52 rfl ?_
      refine xr_gI (r := l1) (ref := "ReserveLedger$State") F dX1_undo_53 (C := RX2) (T := TX2) (N := 5) rfl (by decide) (Or.inr ⟨_, q589⟩) (Or.inl rfl) (fun v53 => ?_)
      refine xs_i [0, 1, 2, 3] F dX1_undo_56 hnL rfl rfl (xk2 rfl (xrf_cat _) (xk1 rfl rfl (xk1 rfl rfl (xk1 rfl rfl xk0)))) ?_
      exact xI.sub [2, 3, 4, 1, 0] rfl (fX1_undo_p58_ok F hnL hRm hno hmn ih xFU l0 l1 l2 v43 v53)
theorem fX1_undo_m {l : Launch} {D : xD} {s0 : State} {b0 : Nat} {Γ : Nat → Option Nat} (G : xG l D s0 b0 Γ) (a0 : Nat) : xMeth l D s0 Γ yX1_undo (Cond.code yX1_undo cX1_undo 6 (some .int)) (8) (170) [.ref a0] xeI (fX1_undo a0) := by
  refine xMeth.of (lv0 := [(0, va_rf (some a0))]) G (by decide +kernel) (Or.inl rfl) (Nat.le_of_ble_eq_true rfl) rfl (fun x F hnL hRm hmn ht e1 e2 e3 e4 => ?_)
  have hno : ∀ pc, xNo x pc := fun pc z hz => by rw [ht.1 rfl] at hz; cases hz
  unfold fX1_undo
  refine xr_aload_n 0 (r := (some a0)) F dX1_undo_0 rfl ?_
  refine xr_gR (r := (some a0)) (ref := "ReserveLedger") F dX1_undo_1 (C := RX1) (T := TX1) (N := 7) rfl (by decide) (Or.inl q615) (Or.inl rfl) (fun v1 => ?_)
  refine xr_UI (x0 := ⟨"java/util/LinkedList", "isEmpty", "()Z"⟩) (y := yJ0_isEmpty) (As := []) (r := v1) F (hno _) dX1_undo_4 (fun z => fJ0_isEmpty__J19_m (xFG F) z) rfl (ci := 6) (C := RJ19) (T := TJ19) rfl q1652 q1647 q1651 q1650 q1648 (Or.inr q1649) (xroom hRm (Nat.le_of_ble_eq_true rfl) (Nat.le_of_ble_eq_true rfl)) ⟨by decide, by decide⟩ n_J0_isEmpty rfl (xcat (Nat.le_of_ble_eq_true rfl)) (fun v4 => ?_)
  refine xr_if_eq 12 F dX1_undo_7 rfl ?_ ?_
  · refine xr_aload_n 0 (r := (some a0)) F dX1_undo_12 rfl ?_
    refine xr_gR (r := (some a0)) (ref := "ReserveLedger") F dX1_undo_13 (C := RX1) (T := TX1) (N := 7) rfl (by decide) (Or.inl q615) (Or.inl rfl) (fun v13 => ?_)
    refine xr_VR (y := yJ19_removeLast) (As := []) (r := v13) F (hno _) dX1_undo_16 (fun z => fJ19_removeLast_m (xFG F) z) (Or.inl rfl) (ci := 6) (C := RJ19) (T := TJ19) rfl q1668 q1665 q1666 q1667 (xroom hRm (Nat.le_of_ble_eq_true rfl) (Nat.le_of_ble_eq_true rfl)) ⟨by decide, by decide⟩ n_J19_removeLast rfl (xcat (Nat.le_of_ble_eq_true rfl)) (fun v16 => ?_)
    refine xr_castE (ci := 1) (r := v16) F dX1_undo_19 q202 rfl ?_
    refine xs_a_n [0] F dX1_undo_22 hnL rfl rfl (xk2 rfl (xrf_cat _) xk0) ?_
    refine xr_aload_n 0 (r := v16) F dX1_undo_23 rfl ?_
    refine xr_gR (r := v16) (ref := "ReserveLedger$State") F dX1_undo_24 (C := RX2) (T := TX2) (N := 5) rfl (by decide) (Or.inr ⟨_, q584⟩) (Or.inl rfl) (fun v24 => ?_)
    refine xr_FR (x0 := ⟨"java/util/List", "iterator", "()Ljava/util/Iterator;"⟩) (y := yJ2_iterator) (As := []) (r := v24) F (hno _) dX1_undo_27 (fun z => fJ2_iterator_m (xFG F) z) rfl (ci := 2) (C := RJ2) (T := TJ2) rfl q693 q685 q691 q689 q687 q686 q692 q690 q688 (xroom hRm (Nat.le_of_ble_eq_true rfl) (Nat.le_of_ble_eq_true rfl)) ⟨by decide, by decide⟩ n_J2_iterator rfl (xcat (Nat.le_of_ble_eq_true rfl)) (fun v27 => ?_)
    refine xs_a_n [0, 1] F dX1_undo_32 hnL rfl rfl (xk2 rfl (xrf_cat _) (xk1 rfl rfl xk0)) ?_
    exact xI.sub [2, 1, 0] rfl (fX1_undo_p33_ok F hnL hRm hno hmn xFU a0 v16 v27)
  · refine xr_iconst (-1 : Int32) F dX1_undo_10 rfl ?_
    exact xr_iret F dX1_undo_11
theorem fX1_undoDepth_m {l : Launch} {D : xD} {s0 : State} {b0 : Nat} {Γ : Nat → Option Nat} (G : xG l D s0 b0 Γ) (a0 : Nat) : xMeth l D s0 Γ yX1_undoDepth (Cond.code yX1_undoDepth cX1_undoDepth 1 (some .int)) (2) (32) [.ref a0] xeI (fX1_undoDepth a0) := by
  refine xMeth.of (lv0 := [(0, va_rf (some a0))]) G (by decide +kernel) (Or.inl rfl) (Nat.le_of_ble_eq_true rfl) rfl (fun x F hnL hRm hmn ht e1 e2 e3 e4 => ?_)
  have hno : ∀ pc, xNo x pc := fun pc z hz => by rw [ht.1 rfl] at hz; cases hz
  unfold fX1_undoDepth
  refine xr_aload_n 0 (r := (some a0)) F dX1_undoDepth_0 rfl ?_
  refine xr_gR (r := (some a0)) (ref := "ReserveLedger") F dX1_undoDepth_1 (C := RX1) (T := TX1) (N := 7) rfl (by decide) (Or.inl q615) (Or.inl rfl) (fun v1 => ?_)
  refine xr_VI (y := yJ19_size) (As := []) (r := v1) F (hno _) dX1_undoDepth_4 (fun z => fJ19_size_m (xFG F) z) (Or.inl rfl) (ci := 6) (C := RJ19) (T := TJ19) rfl q841 q1713 q840 q3998 (xroom hRm (Nat.le_of_ble_eq_true rfl) (Nat.le_of_ble_eq_true rfl)) ⟨by decide, by decide⟩ n_J19_size rfl (xcat (Nat.le_of_ble_eq_true rfl)) (fun v4 => ?_)
  exact xr_iret F dX1_undoDepth_7
theorem fX1_formattedByte_m {l : Launch} {D : xD} {s0 : State} {b0 : Nat} {Γ : Nat → Option Nat} (G : xG l D s0 b0 Γ) (a0 : Nat) (p0 : Int32) : xMeth l D s0 Γ yX1_formattedByte (Cond.code yX1_formattedByte cX1_formattedByte 2 (some .int)) (5) (97) [.ref a0, .int p0] xeI (fX1_formattedByte a0 p0) := by
  refine xMeth.of (lv0 := [(0, va_rf (some a0)), (1, .int p0)]) G (by decide +kernel) (Or.inl rfl) (Nat.le_of_ble_eq_true rfl) rfl (fun x F hnL hRm hmn ht e1 e2 e3 e4 => ?_)
  have hno : ∀ pc, xNo x pc := fun pc z hz => by rw [ht.1 rfl] at hz; cases hz
  unfold fX1_formattedByte
  refine xr_iload_n 1 F dX1_formattedByte_0 rfl ?_
  refine xr_iconst (0 : Int32) F dX1_formattedByte_1 rfl ?_
  refine xr_aload_n 0 (r := (some a0)) F dX1_formattedByte_2 rfl ?_
  refine xr_gR (r := (some a0)) (ref := "ReserveLedger") F dX1_formattedByte_3 (C := RX1) (T := TX1) (N := 7) rfl (by decide) (Or.inl q616) (Or.inl rfl) (fun v3 => ?_)
  refine xr_VI (y := yJ9_length) (As := []) (r := v3) F (hno _) dX1_formattedByte_6 (fun z => fJ9_length_m (xFG F) z) (Or.inl rfl) (ci := 5) (C := RJ9) (T := TJ9) rfl q383 q1722 q381 q382 (xroom hRm (Nat.le_of_ble_eq_true rfl) (Nat.le_of_ble_eq_true rfl)) ⟨by decide, by decide⟩ n_J9_length rfl (xcat (Nat.le_of_ble_eq_true rfl)) (fun v6 => ?_)
  refine xr_iconst (1 : Int32) F dX1_formattedByte_9 rfl ?_
  refine xr_isub F dX1_formattedByte_10 ?_
  refine xr_SI (y := yX1_inRange) (As := [.int p0, .int (0 : Int32), .int (v6 - (1 : Int32))]) F (hno _) dX1_formattedByte_11 (fX1_inRange_m (xFG F) p0 (0 : Int32) (v6 - (1 : Int32))) (Or.inl rfl) q646 q121 (Or.inl q644) q645 (xroom hRm (Nat.le_of_ble_eq_true rfl) (Nat.le_of_ble_eq_true rfl)) ⟨by decide, by decide⟩ n_X1_inRange rfl (xcat (Nat.le_of_ble_eq_true rfl)) (fun v11 => ?_)
  refine xr_if_eq 28 F dX1_formattedByte_14 rfl ?_ ?_
  · refine xr_iconst (-1 : Int32) F dX1_formattedByte_28 rfl ?_
    exact xr_iret F dX1_formattedByte_29
  · refine xr_aload_n 0 (r := (some a0)) F dX1_formattedByte_17 rfl ?_
    refine xr_gR (r := (some a0)) (ref := "ReserveLedger") F dX1_formattedByte_18 (C := RX1) (T := TX1) (N := 7) rfl (by decide) (Or.inl q616) (Or.inl rfl) (fun v18 => ?_)
    refine xr_iload_n 1 F dX1_formattedByte_21 rfl ?_
    refine xr_VI (y := yJ9_charAt) (As := [.int p0]) (r := v18) F (hno _) dX1_formattedByte_22 (fun z => fJ9_charAt_m (xFG F) z p0) (Or.inl rfl) (ci := 5) (C := RJ9) (T := TJ9) rfl q1726 q1723 q1724 q1725 (xroom hRm (Nat.le_of_ble_eq_true rfl) (Nat.le_of_ble_eq_true rfl)) ⟨by decide, by decide⟩ n_J9_charAt rfl (xcat (Nat.le_of_ble_eq_true rfl)) (fun v22 => ?_)
    refine xr_goto 29 F dX1_formattedByte_25 rfl ?_
    exact xr_iret F dX1_formattedByte_29
