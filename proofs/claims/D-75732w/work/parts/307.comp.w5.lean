theorem fJ0_init__J37_m {l : Launch} {D : xD} {s0 : State} {b0 : Nat} {Γ : Nat → Option Nat} (G : xG l D s0 b0 Γ) (a0 : Nat) : xMeth l D s0 Γ yJ0_init (Cond.code yJ0_init cJ0_init 1 none) (1) (20) [.ref a0] xeV (fJ0_init__J37 a0) := by
  refine xMeth.of (lv0 := [(0, va_rf (some a0))]) G (by decide +kernel) (Or.inl rfl) (Nat.le_of_ble_eq_true rfl) rfl (fun x F hnL hRm hmn ht e1 e2 e3 e4 => ?_)
  have hno : ∀ pc, xNo x pc := fun pc z hz => by rw [ht.1 rfl] at hz; cases hz
  unfold fJ0_init__J37
  refine xr_aload_n 0 (r := (some a0)) F dJ0_init_0 rfl ?_
  refine xr_obj F dJ0_init_1 q219 q200 (q_objcode) (xroom hRm (Nat.le_of_ble_eq_true rfl) (Nat.le_of_ble_eq_true rfl)) (xcat (Nat.le_of_ble_eq_true rfl)) ?_
  exact xr_vret F dJ0_init_4
theorem fJ36_init__J37_m {l : Launch} {D : xD} {s0 : State} {b0 : Nat} {Γ : Nat → Option Nat} (G : xG l D s0 b0 Γ) (a0 : Nat) : xMeth l D s0 Γ yJ36_init (Cond.code yJ36_init cJ36_init 1 none) (2) (40) [.ref a0] xeV (fJ36_init__J37 a0) := by
  refine xMeth.of (lv0 := [(0, va_rf (some a0))]) G (by decide +kernel) (Or.inl rfl) (Nat.le_of_ble_eq_true rfl) rfl (fun x F hnL hRm hmn ht e1 e2 e3 e4 => ?_)
  have hno : ∀ pc, xNo x pc := fun pc z hz => by rw [ht.1 rfl] at hz; cases hz
  unfold fJ36_init__J37
  refine xr_aload_n 0 (r := (some a0)) F dJ36_init_0 rfl ?_
  refine xr_IV (y := yJ0_init) (As := []) F (hno _) dJ36_init_1 (fJ0_init__J37_m (xFG F) a0) rfl rfl q218 (Or.inl q2728) q217 (xroom hRm (Nat.le_of_ble_eq_true rfl) (Nat.le_of_ble_eq_true rfl)) ⟨by decide, by decide⟩ n_J0_init rfl (xcat (Nat.le_of_ble_eq_true rfl)) (fun _ => ?_)
  exact xr_vret F dJ36_init_4
theorem fJ37_init_m {l : Launch} {D : xD} {s0 : State} {b0 : Nat} {Γ : Nat → Option Nat} (G : xG l D s0 b0 Γ) (a0 : Nat) (p0 : Option Nat) : xMeth l D s0 Γ yJ37_init (Cond.code yJ37_init cJ37_init 2 none) (3) (60) [.ref a0, va_rf p0] xeV (fJ37_init a0 p0) := by
  refine xMeth.of (lv0 := [(0, va_rf (some a0)), (1, va_rf p0)]) G (by decide +kernel) (Or.inl rfl) (by simp [lg_sl, xrf_cat, xct_i, xct_l, xct_d, xct_r]) (by simp [lv_args, xrf_cat, xct_i, xct_l, xct_d, xct_r, xrf_some]) (fun x F hnL hRm hmn ht e1 e2 e3 e4 => ?_)
  have hno : ∀ pc, xNo x pc := fun pc z hz => by rw [ht.1 rfl] at hz; cases hz
  unfold fJ37_init
  refine xr_aload_n 0 (r := (some a0)) F dJ37_init_0 rfl ?_
  refine xr_aload_n 1 (r := p0) F dJ37_init_1 rfl ?_
  refine xr_put (r := (some a0)) (ref := "java/util/TreeMap$EntrySet") F dJ37_init_2 xk_32 (by decide) (Or.inl q2729) (Or.inl rfl) (Or.inr ⟨rfl, hmn.1, rfl, q2729⟩) (xr_rf _ _) ?_
  refine xr_aload_n 0 (r := (some a0)) F dJ37_init_5 rfl ?_
  refine xr_IV (y := yJ36_init) (As := []) F (hno _) dJ37_init_6 (fJ36_init__J37_m (xFG F) a0) rfl rfl q2727 (Or.inl q2725) q2726 (xroom hRm (Nat.le_of_ble_eq_true rfl) (Nat.le_of_ble_eq_true rfl)) ⟨by decide, by decide⟩ n_J36_init rfl (xcat (Nat.le_of_ble_eq_true rfl)) (fun _ => ?_)
  exact xr_vret F dJ37_init_9
theorem fJ29_entrySet_m {l : Launch} {D : xD} {s0 : State} {b0 : Nat} {Γ : Nat → Option Nat} (G : xG l D s0 b0 Γ) (a0 : Nat) : xMeth l D s0 Γ yJ29_entrySet (Cond.code yJ29_entrySet cJ29_entrySet 2 (some (.object "java/util/Set"))) (4) (81) [.ref a0] xeR (fJ29_entrySet a0) := by
  refine xMeth.of (lv0 := [(0, va_rf (some a0))]) G (by decide +kernel) (Or.inl rfl) (Nat.le_of_ble_eq_true rfl) rfl (fun x F hnL hRm hmn ht e1 e2 e3 e4 => ?_)
  have hno : ∀ pc, xNo x pc := fun pc z hz => by rw [ht.1 rfl] at hz; cases hz
  unfold fJ29_entrySet
  refine xr_aload_n 0 (r := (some a0)) F dJ29_entrySet_0 rfl ?_
  refine xr_gR (r := (some a0)) (ref := "java/util/TreeMap") F dJ29_entrySet_1 (C := RJ29) (T := TJ29) (N := 9) rfl (by decide) (Or.inl q1892) (Or.inl rfl) (fun v1 => ?_)
  refine xs_a_n [0] F dJ29_entrySet_4 hnL rfl rfl (xk2 rfl (xrf_cat _) xk0) ?_
  refine xr_aload_n 0 (r := v1) F dJ29_entrySet_5 rfl ?_
  refine xr_ifnull 13 F dJ29_entrySet_6 rfl ?_ ?_
  · refine xr_aload_n 1 (r := (some a0)) F dJ29_entrySet_13 rfl ?_
    refine xr_new F dJ29_entrySet_14 xk_32 xdf_32 q2720 q2721 q179 (fun v14 => ?_)
    refine xr_dup F dJ29_entrySet_17 (xrf_cat _) ?_
    refine xr_aload_n 1 (r := (some a0)) F dJ29_entrySet_18 rfl ?_
    refine xr_IV (y := yJ37_init) (As := [va_rf (some a0)]) F (hno _) dJ29_entrySet_19 (fJ37_init_m (xFG F) v14 (some a0)) rfl rfl q2724 (Or.inl q2722) q2723 (xroom hRm (Nat.le_of_ble_eq_true rfl) (Nat.le_of_ble_eq_true rfl)) ⟨by decide, by decide⟩ n_J37_init rfl (xcat (Nat.le_of_ble_eq_true rfl)) (fun _ => ?_)
    refine xr_dup_x1 F dJ29_entrySet_22 (xrf_cat _) (xrf_cat _) ?_
    refine xr_put (r := (some a0)) (ref := "java/util/TreeMap") F dJ29_entrySet_23 xk_16 (by decide) (Or.inl q1892) (Or.inl rfl) (Or.inl rfl) (xr_rf _ _) ?_
    exact xr_aret (v := (some v14)) F dJ29_entrySet_26 (Or.inl ⟨_, rfl⟩)
  · refine xr_aload_n 0 (r := v1) F dJ29_entrySet_9 rfl ?_
    refine xr_goto 26 F dJ29_entrySet_10 rfl ?_
    exact xr_aret (v := v1) F dJ29_entrySet_26 (Or.inl ⟨_, rfl⟩)
theorem fJ29_getFirstEntry_p9_ok {x : xC} (F : xF x RJ29 cJ29_getFirstEntry (some (.object "java/util/TreeMap$Entry"))) (hnL : xnL x = 2) (hRm : ∃ dc ds, x.2.2.2.1 = { frames := 1, cells := dc, slots := ds, locals := 12 }) (hno : ∀ pc, xNo x pc) (hmn : xmn x = "getFirstEntry" ∧ xmy x yJ29_getFirstEntry) : ∀ (n : Nat) (l1 : Option Nat), xI x xeR 9 [(1, va_rf l1)] [] (fJ29_getFirstEntry_p9 n l1) := by
  intro n
  induction n with
  | zero => intro l1; exact xI.stuck
  | succ n ih =>
    intro l1
    unfold fJ29_getFirstEntry_p9
    refine xr_aload_n 0 (r := l1) F dJ29_getFirstEntry_9 rfl ?_
    refine xr_gR (r := l1) (ref := "java/util/TreeMap$Entry") F dJ29_getFirstEntry_10 (C := RJ47) (T := TJ47) (N := 6) rfl (by decide) (Or.inl q3164) (Or.inl rfl) (fun v10 => ?_)
    refine xr_ifnull 24 F dJ29_getFirstEntry_13 rfl ?_ ?_
    · refine xr_aload_n 0 (r := l1) F dJ29_getFirstEntry_24 rfl ?_
      exact xr_aret (v := l1) F dJ29_getFirstEntry_25 (Or.inl ⟨_, rfl⟩)
    · refine xr_aload_n 0 (r := l1) F dJ29_getFirstEntry_16 rfl ?_
      refine xr_gR (r := l1) (ref := "java/util/TreeMap$Entry") F dJ29_getFirstEntry_17 (C := RJ47) (T := TJ47) (N := 6) rfl (by decide) (Or.inl q3164) (Or.inl rfl) (fun v17 => ?_)
      refine xs_a_n [] F dJ29_getFirstEntry_20 hnL rfl rfl xk0 ?_
      refine xr_goto 9 F dJ29_getFirstEntry_21 rfl ?_
      exact xI.sub [0] rfl (ih v17)
theorem fJ29_getFirstEntry_m {l : Launch} {D : xD} {s0 : State} {b0 : Nat} {Γ : Nat → Option Nat} (G : xG l D s0 b0 Γ) (a0 : Nat) : xMeth l D s0 Γ yJ29_getFirstEntry (Cond.code yJ29_getFirstEntry cJ29_getFirstEntry 2 (some (.object "java/util/TreeMap$Entry"))) (1) (12) [.ref a0] xeR (fJ29_getFirstEntry a0) := by
  refine xMeth.of (lv0 := [(0, va_rf (some a0))]) G (by decide +kernel) (Or.inl rfl) (Nat.le_of_ble_eq_true rfl) rfl (fun x F hnL hRm hmn ht e1 e2 e3 e4 => ?_)
  have hno : ∀ pc, xNo x pc := fun pc z hz => by rw [ht.1 rfl] at hz; cases hz
  unfold fJ29_getFirstEntry
  refine xr_aload_n 0 (r := (some a0)) F dJ29_getFirstEntry_0 rfl ?_
  refine xr_gR (r := (some a0)) (ref := "java/util/TreeMap") F dJ29_getFirstEntry_1 (C := RJ29) (T := TJ29) (N := 9) rfl (by decide) (Or.inl q1888) (Or.inl rfl) (fun v1 => ?_)
  refine xs_a_n [] F dJ29_getFirstEntry_4 hnL rfl rfl xk0 ?_
  refine xr_aload_n 0 (r := v1) F dJ29_getFirstEntry_5 rfl ?_
  refine xr_ifnull 24 F dJ29_getFirstEntry_6 rfl ?_ ?_
  · refine xr_aload_n 0 (r := v1) F dJ29_getFirstEntry_24 rfl ?_
    exact xr_aret (v := v1) F dJ29_getFirstEntry_25 (Or.inl ⟨_, rfl⟩)
  · exact xI.sub [0] rfl (fJ29_getFirstEntry_p9_ok F hnL hRm hno hmn xFU v1)
theorem fJ38_init__J39_m {l : Launch} {D : xD} {s0 : State} {b0 : Nat} {Γ : Nat → Option Nat} (G : xG l D s0 b0 Γ) (a0 : Nat) (p0 : Option Nat) (p1 : Option Nat) : xMeth l D s0 Γ yJ38_init (Cond.code yJ38_init cJ38_init 3 none) (1) (20) [.ref a0, va_rf p0, va_rf p1] xeV (fJ38_init__J39 a0 p0 p1) := by
  refine xMeth.of (lv0 := [(0, va_rf (some a0)), (1, va_rf p0), (2, va_rf p1)]) G (by decide +kernel) (Or.inl rfl) (by simp [lg_sl, xrf_cat, xct_i, xct_l, xct_d, xct_r]) (by simp [lv_args, xrf_cat, xct_i, xct_l, xct_d, xct_r, xrf_some]) (fun x F hnL hRm hmn ht e1 e2 e3 e4 => ?_)
  have hno : ∀ pc, xNo x pc := fun pc z hz => by rw [ht.1 rfl] at hz; cases hz
  unfold fJ38_init__J39
  refine xr_aload_n 0 (r := (some a0)) F dJ38_init_0 rfl ?_
  refine xr_aload_n 1 (r := p0) F dJ38_init_1 rfl ?_
  refine xr_put (r := (some a0)) (ref := "java/util/TreeMap$PrivateEntryIterator") F dJ38_init_2 xk_13 (by decide) (Or.inl q1265) (Or.inl rfl) (Or.inr ⟨rfl, hmn.1, rfl, q1265⟩) (xr_rf _ _) ?_
  refine xr_aload_n 0 (r := (some a0)) F dJ38_init_5 rfl ?_
  refine xr_obj F dJ38_init_6 q1261 q200 (q_objcode) (xroom hRm (Nat.le_of_ble_eq_true rfl) (Nat.le_of_ble_eq_true rfl)) (xcat (Nat.le_of_ble_eq_true rfl)) ?_
  refine xr_aload_n 0 (r := (some a0)) F dJ38_init_9 rfl ?_
  refine xr_aload_n 1 (r := p0) F dJ38_init_10 rfl ?_
  refine xr_gI (r := p0) (ref := "java/util/TreeMap") F dJ38_init_11 (C := RJ29) (T := TJ29) (N := 9) rfl (by decide) (Or.inr ⟨_, q1891⟩) (Or.inl rfl) (fun v11 => ?_)
  refine xr_put (r := (some a0)) (ref := "java/util/TreeMap$PrivateEntryIterator") F dJ38_init_14 xk_13 (by decide) (Or.inl q1264) (Or.inl rfl) (Or.inl rfl) ⟨rfl, rfl⟩ ?_
  refine xr_aload_n 0 (r := (some a0)) F dJ38_init_17 rfl ?_
  refine xr_null F dJ38_init_18 ?_
  refine xr_put (r := (some a0)) (ref := "java/util/TreeMap$PrivateEntryIterator") F dJ38_init_19 xk_13 (by decide) (Or.inl q1263) (Or.inl rfl) (Or.inl rfl) (xr_rf _ _) ?_
  refine xr_aload_n 0 (r := (some a0)) F dJ38_init_22 rfl ?_
  refine xr_aload_n 2 (r := p1) F dJ38_init_23 rfl ?_
  refine xr_put (r := (some a0)) (ref := "java/util/TreeMap$PrivateEntryIterator") F dJ38_init_24 xk_13 (by decide) (Or.inl q1262) (Or.inl rfl) (Or.inl rfl) (xr_rf _ _) ?_
  exact xr_vret F dJ38_init_27
theorem fJ39_init_m {l : Launch} {D : xD} {s0 : State} {b0 : Nat} {Γ : Nat → Option Nat} (G : xG l D s0 b0 Γ) (a0 : Nat) (p0 : Option Nat) (p1 : Option Nat) : xMeth l D s0 Γ yJ39_init (Cond.code yJ39_init cJ39_init 3 none) (2) (42) [.ref a0, va_rf p0, va_rf p1] xeV (fJ39_init a0 p0 p1) := by
  refine xMeth.of (lv0 := [(0, va_rf (some a0)), (1, va_rf p0), (2, va_rf p1)]) G (by decide +kernel) (Or.inl rfl) (by simp [lg_sl, xrf_cat, xct_i, xct_l, xct_d, xct_r]) (by simp [lv_args, xrf_cat, xct_i, xct_l, xct_d, xct_r, xrf_some]) (fun x F hnL hRm hmn ht e1 e2 e3 e4 => ?_)
  have hno : ∀ pc, xNo x pc := fun pc z hz => by rw [ht.1 rfl] at hz; cases hz
  unfold fJ39_init
  refine xr_aload_n 0 (r := (some a0)) F dJ39_init_0 rfl ?_
  refine xr_aload_n 1 (r := p0) F dJ39_init_1 rfl ?_
  refine xr_aload_n 2 (r := p1) F dJ39_init_2 rfl ?_
  refine xr_IV (y := yJ38_init) (As := [va_rf p0, va_rf p1]) F (hno _) dJ39_init_3 (fJ38_init__J39_m (xFG F) a0 p0 p1) rfl rfl q1260 (Or.inl q1258) q1259 (xroom hRm (Nat.le_of_ble_eq_true rfl) (Nat.le_of_ble_eq_true rfl)) ⟨by decide, by decide⟩ n_J38_init rfl (xcat (Nat.le_of_ble_eq_true rfl)) (fun _ => ?_)
  exact xr_vret F dJ39_init_6
theorem fJ37_iterator_m {l : Launch} {D : xD} {s0 : State} {b0 : Nat} {Γ : Nat → Option Nat} (G : xG l D s0 b0 Γ) (a0 : Nat) : xMeth l D s0 Γ yJ37_iterator (Cond.code yJ37_iterator cJ37_iterator 1 (some (.object "java/util/Iterator"))) (3) (64) [.ref a0] xeR (fJ37_iterator a0) := by
  refine xMeth.of (lv0 := [(0, va_rf (some a0))]) G (by decide +kernel) (Or.inl rfl) (Nat.le_of_ble_eq_true rfl) rfl (fun x F hnL hRm hmn ht e1 e2 e3 e4 => ?_)
  have hno : ∀ pc, xNo x pc := fun pc z hz => by rw [ht.1 rfl] at hz; cases hz
  unfold fJ37_iterator
  refine xr_new F dJ37_iterator_0 xk_13 xdf_13 q1249 q1250 q181 (fun v0 => ?_)
  refine xr_dup F dJ37_iterator_3 (xrf_cat _) ?_
  refine xr_aload_n 0 (r := (some a0)) F dJ37_iterator_4 rfl ?_
  refine xr_gR (r := (some a0)) (ref := "java/util/TreeMap$EntrySet") F dJ37_iterator_5 (C := RJ37) (T := TJ37) (N := 1) rfl (by decide) (Or.inl q2729) (Or.inl rfl) (fun v5 => ?_)
  refine xr_aload_n 0 (r := (some a0)) F dJ37_iterator_8 rfl ?_
  refine xr_gR (r := (some a0)) (ref := "java/util/TreeMap$EntrySet") F dJ37_iterator_9 (C := RJ37) (T := TJ37) (N := 1) rfl (by decide) (Or.inl q2729) (Or.inl rfl) (fun v9 => ?_)
  refine xr_VR (y := yJ29_getFirstEntry) (As := []) (r := v9) F (hno _) dJ37_iterator_12 (fun z => fJ29_getFirstEntry_m (xFG F) z) (Or.inl rfl) (ci := 16) (C := RJ29) (T := TJ29) rfl q1254 q1251 q1252 q1253 (xroom hRm (Nat.le_of_ble_eq_true rfl) (Nat.le_of_ble_eq_true rfl)) ⟨by decide, by decide⟩ n_J29_getFirstEntry rfl (xcat (Nat.le_of_ble_eq_true rfl)) (fun v12 => ?_)
  refine xr_IV (y := yJ39_init) (As := [va_rf v5, va_rf v12]) F (hno _) dJ37_iterator_15 (fJ39_init_m (xFG F) v0 v5 v12) rfl rfl q1257 (Or.inl q1255) q1256 (xroom hRm (Nat.le_of_ble_eq_true rfl) (Nat.le_of_ble_eq_true rfl)) ⟨by decide, by decide⟩ n_J39_init rfl (xcat (Nat.le_of_ble_eq_true rfl)) (fun _ => ?_)
  exact xr_aret (v := (some v0)) F dJ37_iterator_18 (Or.inl ⟨_, rfl⟩)
theorem fX1_worstYear_p97_ok {x : xC} (F : xF x RX1 cX1_worstYear (some .int)) (hnL : xnL x = 6) (hRm : ∃ dc ds, x.2.2.2.1 = { frames := 8, cells := dc, slots := ds, locals := 131 }) (hno : ∀ pc, xNo x pc) (hmn : xmn x = "worstYear" ∧ xmy x yX1_worstYear) {k25 : Int32 → Int32 → Option Nat → xM (Int32)} (hk25 : ∀ (l2 : Int32) (l3 : Int32) (l4 : Option Nat), xI x xeI 25 [(2, .int l2), (3, .int l3), (4, va_rf l4)] [] (k25 l2 l3 l4)) (l2 : Int32) (l3 : Int32) (l4 : Option Nat) : xI x xeI 97 [(2, .int l2), (3, .int l3), (4, va_rf l4)] [] (fX1_worstYear_p97 k25 l2 l3 l4) := by
  unfold fX1_worstYear_p97
  refine xr_goto 25 F dX1_worstYear_97 rfl ?_
  exact xI.sub [0, 1, 2] rfl (hk25 l2 l3 l4)
theorem fX1_worstYear_p69_ok {x : xC} (F : xF x RX1 cX1_worstYear (some .int)) (hnL : xnL x = 6) (hRm : ∃ dc ds, x.2.2.2.1 = { frames := 8, cells := dc, slots := ds, locals := 131 }) (hno : ∀ pc, xNo x pc) (hmn : xmn x = "worstYear" ∧ xmy x yX1_worstYear) {k25 : Int32 → Int32 → Option Nat → xM (Int32)} (hk25 : ∀ (l2 : Int32) (l3 : Int32) (l4 : Option Nat), xI x xeI 25 [(2, .int l2), (3, .int l3), (4, va_rf l4)] [] (k25 l2 l3 l4)) (l4 : Option Nat) (l5 : Option Nat) : xI x xeI 69 [(4, va_rf l4), (5, va_rf l5)] [] (fX1_worstYear_p69 k25 l4 l5) := by
  unfold fX1_worstYear_p69
  refine xr_aload 1 (r := l5) F dX1_worstYear_69 rfl ?_
  refine xr_FR (x0 := ⟨"java/util/Map$Entry", "getKey", "()Ljava/lang/Object;"⟩) (y := yJ47_getKey) (As := []) (r := l5) F (hno _) dX1_worstYear_71 (fun z => fJ47_getKey_m (xFG F) z) rfl (ci := 36) (C := RJ47) (T := TJ47) rfl q2685 q2741 q2683 q2681 q2673 q2672 q2684 q2682 q2680 (xroom hRm (Nat.le_of_ble_eq_true rfl) (Nat.le_of_ble_eq_true rfl)) ⟨by decide, by decide⟩ n_J47_getKey rfl (xcat (Nat.le_of_ble_eq_true rfl)) (fun v71 => ?_)
  refine xr_castE (ci := 15) (r := v71) F dX1_worstYear_76 q2742 rfl ?_
  refine xr_VI (y := yJ17_intValue) (As := []) (r := v71) F (hno _) dX1_worstYear_79 (fun z => fJ17_intValue_m (xFG F) z) (Or.inl rfl) (ci := 15) (C := RJ17) (T := TJ17) rfl q2746 q2743 q2744 q2745 (xroom hRm (Nat.le_of_ble_eq_true rfl) (Nat.le_of_ble_eq_true rfl)) ⟨by decide, by decide⟩ n_J17_intValue rfl (xcat (Nat.le_of_ble_eq_true rfl)) (fun v79 => ?_)
  refine xs_i_n [0, 1] F dX1_worstYear_82 hnL rfl rfl (xk1 rfl rfl (xk1 rfl rfl xk0)) ?_
  refine xr_aload 2 (r := l5) F dX1_worstYear_83 rfl ?_
  refine xI.alt2 (Kp := ∀ (v85 : Option Nat), xI x xeI 90 [(2, .int v79), (4, va_rf l4), (5, va_rf l5)] [va_rf v85] _) ?_ (fun hK => xr_FR (x0 := ⟨"java/util/Map$Entry", "getValue", "()Ljava/lang/Object;"⟩) (y := yJ35_getValue) (As := []) (r := l5) F (hno _) dX1_worstYear_85 (fun z => fJ35_getValue_m (xFG F) z) rfl (ci := 31) (C := RJ35) (T := TJ35) rfl q2694 q2708 q2692 q2690 q2689 q2688 q2693 q2691 q2674 (xroom hRm (Nat.le_of_ble_eq_true rfl) (Nat.le_of_ble_eq_true rfl)) ⟨by decide, by decide⟩ n_J35_getValue rfl (xcat (Nat.le_of_ble_eq_true rfl)) hK) (fun hK => (xr_FR (x0 := ⟨"java/util/Map$Entry", "getValue", "()Ljava/lang/Object;"⟩) (y := yJ47_getValue) (As := []) (r := l5) F (hno _) dX1_worstYear_85 (fun z => fJ47_getValue_m (xFG F) z) rfl (ci := 36) (C := RJ47) (T := TJ47) rfl q2699 q2708 q2697 q2695 q2689 q2688 q2698 q2696 q2680 (xroom hRm (Nat.le_of_ble_eq_true rfl) (Nat.le_of_ble_eq_true rfl)) ⟨by decide, by decide⟩ n_J47_getValue rfl (xcat (Nat.le_of_ble_eq_true rfl)) hK))
  intro v85
  refine xr_castE (ci := 22) (r := v85) F dX1_worstYear_90 q1293 rfl ?_
  refine xr_gI (r := v85) (ref := "ReserveLedger$Ledger") F dX1_worstYear_93 (C := RX9) (T := TX9) (N := 7) rfl (by decide) (Or.inr ⟨_, q1974⟩) (Or.inl rfl) (fun v93 => ?_)
  refine xs_i_n [0, 1] F dX1_worstYear_96 hnL rfl rfl (xk2 rfl rfl (xk1 rfl rfl xk0)) ?_
  exact xI.sub [1, 0, 2] rfl (fX1_worstYear_p97_ok F hnL hRm hno hmn hk25 v79 v93 l4)
theorem fX1_worstYear_p25_ok {x : xC} (F : xF x RX1 cX1_worstYear (some .int)) (hnL : xnL x = 6) (hRm : ∃ dc ds, x.2.2.2.1 = { frames := 8, cells := dc, slots := ds, locals := 131 }) (hno : ∀ pc, xNo x pc) (hmn : xmn x = "worstYear" ∧ xmy x yX1_worstYear) : ∀ (n : Nat) (l2 : Int32) (l3 : Int32) (l4 : Option Nat), xI x xeI 25 [(2, .int l2), (3, .int l3), (4, va_rf l4)] [] (fX1_worstYear_p25 n l2 l3 l4) := by
  intro n
  induction n with
  | zero => intro l2 l3 l4; exact xI.stuck
  | succ n ih =>
    intro l2 l3 l4
    unfold fX1_worstYear_p25
    refine xr_aload 2 (r := l4) F dX1_worstYear_25 rfl ?_
    refine xr_FI (x0 := ⟨"java/util/Iterator", "hasNext", "()Z"⟩) (y := yJ38_hasNext) (As := []) (r := l4) F (hno _) dX1_worstYear_27 (fun z => fJ38_hasNext__J39_m (xFG F) z) rfl (ci := 13) (C := RJ39) (T := TJ39) rfl q878 q824 q876 q874 q826 q825 q877 q875 q873 (xroom hRm (Nat.le_of_ble_eq_true rfl) (Nat.le_of_ble_eq_true rfl)) ⟨by decide, by decide⟩ n_J38_hasNext rfl (xcat (Nat.le_of_ble_eq_true rfl)) (fun v27 => ?_)
    refine xr_if_eq 100 F dX1_worstYear_32 rfl ?_ ?_
    · refine xr_iload_n 0 F dX1_worstYear_100 rfl ?_
      exact xr_iret F dX1_worstYear_101
    · refine xr_aload 2 (r := l4) F dX1_worstYear_35 rfl ?_
      refine xr_FR (x0 := ⟨"java/util/Iterator", "next", "()Ljava/lang/Object;"⟩) (y := yJ39_next) (As := []) (r := l4) F (hno _) dX1_worstYear_37 (fun z => fJ39_next_m (xFG F) z) rfl (ci := 13) (C := RJ39) (T := TJ39) rfl q1121 q883 q1119 q1117 q885 q884 q1120 q1118 q873 (xroom hRm (Nat.le_of_ble_eq_true rfl) (Nat.le_of_ble_eq_true rfl)) ⟨by decide, by decide⟩ n_J39_next rfl (xcat (Nat.le_of_ble_eq_true rfl)) (fun v37 => ?_)
      refine xr_cast (r := v37) F dX1_worstYear_42 q2739 xok_31_36_java_util_Map_Entry ?_
      refine xs_a [0, 1, 2] F dX1_worstYear_45 hnL rfl rfl (xk1 rfl rfl (xk1 rfl rfl (xk2 rfl (xrf_cat _) xk0))) ?_
      refine xr_iload_n 1 F dX1_worstYear_47 rfl ?_
      refine xr_iconst (-1 : Int32) F dX1_worstYear_48 rfl ?_
      refine xr_icmp_eq 69 F dX1_worstYear_49 rfl ?_ ?_
      · exact xI.sub [3, 0] rfl (fX1_worstYear_p69_ok F hnL hRm hno hmn ih l4 v37)
      · refine xr_aload 0 (r := v37) F dX1_worstYear_52 rfl ?_
        refine xr_FR (x0 := ⟨"java/util/Map$Entry", "getValue", "()Ljava/lang/Object;"⟩) (y := yJ47_getValue) (As := []) (r := v37) F (hno _) dX1_worstYear_54 (fun z => fJ47_getValue_m (xFG F) z) rfl (ci := 36) (C := RJ47) (T := TJ47) rfl q2699 q2708 q2697 q2695 q2689 q2688 q2698 q2696 q2680 (xroom hRm (Nat.le_of_ble_eq_true rfl) (Nat.le_of_ble_eq_true rfl)) ⟨by decide, by decide⟩ n_J47_getValue rfl (xcat (Nat.le_of_ble_eq_true rfl)) (fun v54 => ?_)
        refine xr_castE (ci := 22) (r := v54) F dX1_worstYear_59 q1293 rfl ?_
        refine xr_gI (r := v54) (ref := "ReserveLedger$Ledger") F dX1_worstYear_62 (C := RX9) (T := TX9) (N := 7) rfl (by decide) (Or.inr ⟨_, q1974⟩) (Or.inl rfl) (fun v62 => ?_)
        refine xr_iload_n 2 F dX1_worstYear_65 rfl ?_
        refine xr_icmp_gt 97 F dX1_worstYear_66 rfl ?_ ?_
        · exact xI.sub [1, 2, 3] rfl (fX1_worstYear_p97_ok F hnL hRm hno hmn ih l2 l3 l4)
        · exact xI.sub [3, 0] rfl (fX1_worstYear_p69_ok F hnL hRm hno hmn ih l4 v37)
theorem fX1_worstYear_m {l : Launch} {D : xD} {s0 : State} {b0 : Nat} {Γ : Nat → Option Nat} (G : xG l D s0 b0 Γ) (a0 : Nat) (p0 : Int32) : xMeth l D s0 Γ yX1_worstYear (Cond.code yX1_worstYear cX1_worstYear 6 (some .int)) (8) (131) [.ref a0, .int p0] xeI (fX1_worstYear a0 p0) := by
  refine xMeth.of (lv0 := [(0, va_rf (some a0)), (1, .int p0)]) G (by decide +kernel) (Or.inl rfl) (Nat.le_of_ble_eq_true rfl) rfl (fun x F hnL hRm hmn ht e1 e2 e3 e4 => ?_)
  have hno : ∀ pc, xNo x pc := fun pc z hz => by rw [ht.1 rfl] at hz; cases hz
  unfold fX1_worstYear
  refine xr_iconst (-1 : Int32) F dX1_worstYear_0 rfl ?_
  refine xr_letI (fun x2_1 => ?_)
  refine xs_i_n [0, 1] F dX1_worstYear_1 hnL rfl rfl (xk1 rfl rfl (xk2 rfl rfl xk0)) ?_
  refine xr_iconst (0 : Int32) F dX1_worstYear_2 rfl ?_
  refine xr_letI (fun x3_3 => ?_)
  refine xs_i_n [0, 1, 2] F dX1_worstYear_3 hnL rfl rfl (xk2 rfl rfl (xk1 rfl rfl (xk1 rfl rfl xk0))) ?_
  refine xr_aload_n 2 (r := (some a0)) F dX1_worstYear_4 rfl ?_
  refine xr_iload_n 3 F dX1_worstYear_5 rfl ?_
  refine xr_VR (y := yX1_herd) (As := [.int p0]) (r := (some a0)) F (hno _) dX1_worstYear_6 (fun z => fX1_herd_m (xFG F) z p0) (Or.inl rfl) (ci := 0) (C := RX1) (T := TX1) rfl q2504 q2501 q2503 qs34 (xroom hRm (Nat.le_of_ble_eq_true rfl) (Nat.le_of_ble_eq_true rfl)) ⟨by decide, by decide⟩ n_X1_herd rfl (xcat (Nat.le_of_ble_eq_true rfl)) (fun v6 => ?_)
  refine xr_gR (r := v6) (ref := "ReserveLedger$Herd") F dX1_worstYear_9 (C := RX6) (T := TX6) (N := 8) rfl (by decide) (Or.inr ⟨_, q2037⟩) (Or.inl rfl) (fun v9 => ?_)
  refine xr_gR (r := v9) (ref := "ReserveLedger$Species") F dX1_worstYear_12 (C := RX7) (T := TX7) (N := 6) rfl (by decide) (Or.inr ⟨_, q1935⟩) (Or.inl rfl) (fun v12 => ?_)
  refine xr_VR (y := yJ29_entrySet) (As := []) (r := v12) F (hno _) dX1_worstYear_15 (fun z => fJ29_entrySet_m (xFG F) z) (Or.inl rfl) (ci := 16) (C := RJ29) (T := TJ29) rfl q2719 q2716 q2717 q2718 (xroom hRm (Nat.le_of_ble_eq_true rfl) (Nat.le_of_ble_eq_true rfl)) ⟨by decide, by decide⟩ n_J29_entrySet rfl (xcat (Nat.le_of_ble_eq_true rfl)) (fun v15 => ?_)
  refine xr_FR (x0 := ⟨"java/util/Set", "iterator", "()Ljava/util/Iterator;"⟩) (y := yJ37_iterator) (As := []) (r := v15) F (hno _) dX1_worstYear_18 (fun z => fJ37_iterator_m (xFG F) z) rfl (ci := 32) (C := RJ37) (T := TJ37) rfl q1248 q2734 q1246 q2738 q2736 q2735 q1247 q1245 q2737 (xroom hRm (Nat.le_of_ble_eq_true rfl) (Nat.le_of_ble_eq_true rfl)) ⟨by decide, by decide⟩ n_J37_iterator rfl (xcat (Nat.le_of_ble_eq_true rfl)) (fun v18 => ?_)
  refine xs_a [0, 1] F dX1_worstYear_23 hnL rfl rfl (xk2 rfl rfl (xk1 rfl rfl xk0)) ?_
  exact xI.sub [2, 1, 0] rfl (fX1_worstYear_p25_ok F hnL hRm hno hmn xFU x2_1 x3_3 v18)
theorem fX0_worstYear_m {l : Launch} {D : xD} {s0 : State} {b0 : Nat} {Γ : Nat → Option Nat} (G : xG l D s0 b0 Γ) (p0 : Option Nat) (p1 : Int32) (p2 : Option Nat) : xMeth l D s0 Γ yX0_worstYear (Cond.codeWith yX0_worstYear cX0_worstYear 4 (some .int) [(0, 9, 12, 25)]) (9) (156) [va_rf p0, .int p1, va_rf p2] xeI (fX0_worstYear p0 p1 p2) := by
  refine xMeth.of (lv0 := [(0, va_rf p0), (1, .int p1), (2, va_rf p2)]) G (by decide +kernel) (Or.inr ⟨_, rfl⟩) (by simp [lg_sl, xrf_cat, xct_i, xct_l, xct_d, xct_r]) (by simp [lv_args, xrf_cat, xct_i, xct_l, xct_d, xct_r, xrf_some]) (fun x F hnL hRm hmn ht e1 e2 e3 e4 => ?_)
  have htb : x.2.2.2.2.2.2.2.2.2.1.exceptionTable.toList = tableOf [(0, 9, 12, 25)] := ht.2 _ rfl
  unfold fX0_worstYear
  refine xr_aload_n 2 (r := p2) F dX0_worstYear_0 rfl ?_
  refine xr_iconst (0 : Int32) F dX0_worstYear_1 rfl ?_
  refine xr_aload_n 0 (r := p0) F dX0_worstYear_2 rfl ?_
  refine xr_iload_n 1 F dX0_worstYear_3 rfl ?_
  refine xr_VIT (y := yX1_worstYear) (As := [.int p1]) (r := p0) F dX0_worstYear_4 (fun z => fX1_worstYear_m (xFG F) z p1) (Or.inl rfl) (ci := 0) (C := RX1) (T := TX1) rfl q2715 q2712 q2713 q2714 (xroom hRm (Nat.le_of_ble_eq_true rfl) (Nat.le_of_ble_eq_true rfl)) ⟨by decide, by decide⟩ n_X1_worstYear rfl (xcat (Nat.le_of_ble_eq_true rfl)) (fun v4 => ?_) (fun q => ?_)
  · refine xr_i2l F dX0_worstYear_7 ?_
    refine xr_last (r := p2) F dX0_worstYear_8 ?_
    refine xr_goto 15 F dX0_worstYear_9 rfl ?_
    refine xr_iconst (0 : Int32) F dX0_worstYear_15 rfl ?_
    exact xr_iret F dX0_worstYear_16
  · refine xT.catch F htb (tableOf []) ⟨0, 9, 12, 25⟩ (tableOf []) rfl rfl xps0 rfl (Or.inr ⟨by decide, _, q2481, q739⟩) ?_
    refine xs_a_n [] F dX0_worstYear_12 hnL rfl rfl xk0 ?_
    refine xr_iconst (1 : Int32) F dX0_worstYear_13 rfl ?_
    exact xr_iret F dX0_worstYear_14
theorem fJ38_hasNext__J43_m {l : Launch} {D : xD} {s0 : State} {b0 : Nat} {Γ : Nat → Option Nat} (G : xG l D s0 b0 Γ) (a0 : Nat) : xMeth l D s0 Γ yJ38_hasNext (Cond.code yJ38_hasNext cJ38_hasNext 1 (some .boolean)) (1) (12) [.ref a0] xeI (fJ38_hasNext__J43 a0) := by
  refine xMeth.of (lv0 := [(0, va_rf (some a0))]) G (by decide +kernel) (Or.inl rfl) (Nat.le_of_ble_eq_true rfl) rfl (fun x F hnL hRm hmn ht e1 e2 e3 e4 => ?_)
  have hno : ∀ pc, xNo x pc := fun pc z hz => by rw [ht.1 rfl] at hz; cases hz
  unfold fJ38_hasNext__J43
  refine xr_aload_n 0 (r := (some a0)) F dJ38_hasNext_0 rfl ?_
  refine xr_gR (r := (some a0)) (ref := "java/util/TreeMap$PrivateEntryIterator") F dJ38_hasNext_1 (C := RJ43) (T := TJ43) (N := 4) rfl (by decide) (Or.inl q1262) (Or.inl rfl) (fun v1 => ?_)
  refine xr_ifnull 11 F dJ38_hasNext_4 rfl ?_ ?_
  · refine xr_iconst (0 : Int32) F dJ38_hasNext_11 rfl ?_
    exact xr_zret F dJ38_hasNext_12 rfl
  · refine xr_iconst (1 : Int32) F dJ38_hasNext_7 rfl ?_
    refine xr_goto 12 F dJ38_hasNext_8 rfl ?_
    exact xr_zret F dJ38_hasNext_12 rfl
theorem fJ38_nextEntry__J43_m {l : Launch} {D : xD} {s0 : State} {b0 : Nat} {Γ : Nat → Option Nat} (G : xG l D s0 b0 Γ) (a0 : Nat) : xMeth l D s0 Γ yJ38_nextEntry (Cond.code yJ38_nextEntry cJ38_nextEntry 2 (some (.object "java/util/TreeMap$Entry"))) (2) (34) [.ref a0] xeR (fJ38_nextEntry__J43 a0) := by
  refine xMeth.of (lv0 := [(0, va_rf (some a0))]) G (by decide +kernel) (Or.inl rfl) (Nat.le_of_ble_eq_true rfl) rfl (fun x F hnL hRm hmn ht e1 e2 e3 e4 => ?_)
  have hno : ∀ pc, xNo x pc := fun pc z hz => by rw [ht.1 rfl] at hz; cases hz
  unfold fJ38_nextEntry__J43
  refine xr_aload_n 0 (r := (some a0)) F dJ38_nextEntry_0 rfl ?_
  refine xr_gR (r := (some a0)) (ref := "java/util/TreeMap$PrivateEntryIterator") F dJ38_nextEntry_1 (C := RJ43) (T := TJ43) (N := 4) rfl (by decide) (Or.inl q1262) (Or.inl rfl) (fun v1 => ?_)
  refine xs_a_n [0] F dJ38_nextEntry_4 hnL rfl rfl (xk2 rfl (xrf_cat _) xk0) ?_
  refine xr_aload_n 0 (r := v1) F dJ38_nextEntry_5 rfl ?_
  refine xr_ifnonnull 17 F dJ38_nextEntry_6 rfl ?_ ?_
  · exact xI.stuck
  · refine xr_aload_n 1 (r := (some a0)) F dJ38_nextEntry_17 rfl ?_
    refine xr_gR (r := (some a0)) (ref := "java/util/TreeMap$PrivateEntryIterator") F dJ38_nextEntry_18 (C := RJ43) (T := TJ43) (N := 4) rfl (by decide) (Or.inl q1265) (Or.inl rfl) (fun v18 => ?_)
    refine xr_gI (r := v18) (ref := "java/util/TreeMap") F dJ38_nextEntry_21 (C := RJ29) (T := TJ29) (N := 9) rfl (by decide) (Or.inr ⟨_, q1891⟩) (Or.inl rfl) (fun v21 => ?_)
    refine xr_aload_n 1 (r := (some a0)) F dJ38_nextEntry_24 rfl ?_
    refine xr_gI (r := (some a0)) (ref := "java/util/TreeMap$PrivateEntryIterator") F dJ38_nextEntry_25 (C := RJ43) (T := TJ43) (N := 4) rfl (by decide) (Or.inl q1264) (Or.inl rfl) (fun v25 => ?_)
    refine xr_icmp_eq 39 F dJ38_nextEntry_28 rfl ?_ ?_
    · refine xr_aload_n 1 (r := (some a0)) F dJ38_nextEntry_39 rfl ?_
      refine xr_aload_n 0 (r := v1) F dJ38_nextEntry_40 rfl ?_
      refine xr_SR (y := yJ29_successor) (As := [va_rf v1]) F (hno _) dJ38_nextEntry_41 (fJ29_successor_m (xFG F) v1) (Or.inl rfl) q1136 q157 (Or.inl q1134) q1135 (xroom hRm (Nat.le_of_ble_eq_true rfl) (Nat.le_of_ble_eq_true rfl)) ⟨by decide, by decide⟩ n_J29_successor rfl (xcat (Nat.le_of_ble_eq_true rfl)) (fun v41 => ?_)
      refine xr_put (r := (some a0)) (ref := "java/util/TreeMap$PrivateEntryIterator") F dJ38_nextEntry_44 xk_14 (by decide) (Or.inl q1262) (Or.inl rfl) (Or.inl rfl) (xr_rf _ _) ?_
      refine xr_aload_n 1 (r := (some a0)) F dJ38_nextEntry_47 rfl ?_
      refine xr_aload_n 0 (r := v1) F dJ38_nextEntry_48 rfl ?_
      refine xr_put (r := (some a0)) (ref := "java/util/TreeMap$PrivateEntryIterator") F dJ38_nextEntry_49 xk_14 (by decide) (Or.inl q1263) (Or.inl rfl) (Or.inl rfl) (xr_rf _ _) ?_
      refine xr_aload_n 0 (r := v1) F dJ38_nextEntry_52 rfl ?_
      exact xr_aret (v := v1) F dJ38_nextEntry_53 (Or.inl ⟨_, rfl⟩)
    · exact xI.stuck
theorem fJ43_next_m {l : Launch} {D : xD} {s0 : State} {b0 : Nat} {Γ : Nat → Option Nat} (G : xG l D s0 b0 Γ) (a0 : Nat) : xMeth l D s0 Γ yJ43_next (Cond.code yJ43_next cJ43_next 1 (some (.object "java/lang/Object"))) (3) (55) [.ref a0] xeR (fJ43_next a0) := by
  refine xMeth.of (lv0 := [(0, va_rf (some a0))]) G (by decide +kernel) (Or.inl rfl) (Nat.le_of_ble_eq_true rfl) rfl (fun x F hnL hRm hmn ht e1 e2 e3 e4 => ?_)
  have hno : ∀ pc, xNo x pc := fun pc z hz => by rw [ht.1 rfl] at hz; cases hz
  unfold fJ43_next
  refine xr_aload_n 0 (r := (some a0)) F dJ43_next_0 rfl ?_
  refine xr_UR (x0 := ⟨"java/util/TreeMap$ValueIterator", "nextEntry", "()Ljava/util/TreeMap$Entry;"⟩) (y := yJ38_nextEntry) (As := []) (r := (some a0)) F (hno _) dJ43_next_1 (fun z => fJ38_nextEntry__J43_m (xFG F) z) rfl (ci := 14) (C := RJ43) (T := TJ43) rfl q1131 q1142 q1130 q1144 q1143 (Or.inr q1128) (xroom hRm (Nat.le_of_ble_eq_true rfl) (Nat.le_of_ble_eq_true rfl)) ⟨by decide, by decide⟩ n_J38_nextEntry rfl (xcat (Nat.le_of_ble_eq_true rfl)) (fun v1 => ?_)
  refine xr_gR (r := v1) (ref := "java/util/TreeMap$Entry") F dJ43_next_4 (C := RJ47) (T := TJ47) (N := 6) rfl (by decide) (Or.inl q3162) (Or.inl rfl) (fun v4 => ?_)
  exact xr_aret (v := v4) F dJ43_next_7 (Or.inl ⟨_, rfl⟩)
theorem fJ0_init__J40_m {l : Launch} {D : xD} {s0 : State} {b0 : Nat} {Γ : Nat → Option Nat} (G : xG l D s0 b0 Γ) (a0 : Nat) : xMeth l D s0 Γ yJ0_init (Cond.code yJ0_init cJ0_init 1 none) (1) (20) [.ref a0] xeV (fJ0_init__J40 a0) := by
  refine xMeth.of (lv0 := [(0, va_rf (some a0))]) G (by decide +kernel) (Or.inl rfl) (Nat.le_of_ble_eq_true rfl) rfl (fun x F hnL hRm hmn ht e1 e2 e3 e4 => ?_)
  have hno : ∀ pc, xNo x pc := fun pc z hz => by rw [ht.1 rfl] at hz; cases hz
  unfold fJ0_init__J40
  refine xr_aload_n 0 (r := (some a0)) F dJ0_init_0 rfl ?_
  refine xr_obj F dJ0_init_1 q219 q200 (q_objcode) (xroom hRm (Nat.le_of_ble_eq_true rfl) (Nat.le_of_ble_eq_true rfl)) (xcat (Nat.le_of_ble_eq_true rfl)) ?_
  exact xr_vret F dJ0_init_4
theorem fJ40_init_m {l : Launch} {D : xD} {s0 : State} {b0 : Nat} {Γ : Nat → Option Nat} (G : xG l D s0 b0 Γ) (a0 : Nat) (p0 : Option Nat) : xMeth l D s0 Γ yJ40_init (Cond.code yJ40_init cJ40_init 2 none) (2) (40) [.ref a0, va_rf p0] xeV (fJ40_init a0 p0) := by
  refine xMeth.of (lv0 := [(0, va_rf (some a0)), (1, va_rf p0)]) G (by decide +kernel) (Or.inl rfl) (by simp [lg_sl, xrf_cat, xct_i, xct_l, xct_d, xct_r]) (by simp [lv_args, xrf_cat, xct_i, xct_l, xct_d, xct_r, xrf_some]) (fun x F hnL hRm hmn ht e1 e2 e3 e4 => ?_)
  have hno : ∀ pc, xNo x pc := fun pc z hz => by rw [ht.1 rfl] at hz; cases hz
  unfold fJ40_init
  refine xr_aload_n 0 (r := (some a0)) F dJ40_init_0 rfl ?_
  refine xr_aload_n 1 (r := p0) F dJ40_init_1 rfl ?_
  refine xr_put (r := (some a0)) (ref := "java/util/TreeMap$Values") F dJ40_init_2 xk_11 (by decide) (Or.inl q1168) (Or.inl rfl) (Or.inr ⟨rfl, hmn.1, rfl, q1168⟩) (xr_rf _ _) ?_
  refine xr_aload_n 0 (r := (some a0)) F dJ40_init_5 rfl ?_
  refine xr_IV (y := yJ0_init) (As := []) F (hno _) dJ40_init_6 (fJ0_init__J40_m (xFG F) a0) rfl rfl q218 (Or.inl q1167) q217 (xroom hRm (Nat.le_of_ble_eq_true rfl) (Nat.le_of_ble_eq_true rfl)) ⟨by decide, by decide⟩ n_J0_init rfl (xcat (Nat.le_of_ble_eq_true rfl)) (fun _ => ?_)
  exact xr_vret F dJ40_init_9
theorem fJ29_values_m {l : Launch} {D : xD} {s0 : State} {b0 : Nat} {Γ : Nat → Option Nat} (G : xG l D s0 b0 Γ) (a0 : Nat) : xMeth l D s0 Γ yJ29_values (Cond.code yJ29_values cJ29_values 2 (some (.object "java/util/Collection"))) (3) (61) [.ref a0] xeR (fJ29_values a0) := by
  refine xMeth.of (lv0 := [(0, va_rf (some a0))]) G (by decide +kernel) (Or.inl rfl) (Nat.le_of_ble_eq_true rfl) rfl (fun x F hnL hRm hmn ht e1 e2 e3 e4 => ?_)
  have hno : ∀ pc, xNo x pc := fun pc z hz => by rw [ht.1 rfl] at hz; cases hz
  unfold fJ29_values
  refine xr_aload_n 0 (r := (some a0)) F dJ29_values_0 rfl ?_
  refine xr_gR (r := (some a0)) (ref := "java/util/TreeMap") F dJ29_values_1 (C := RJ29) (T := TJ29) (N := 9) rfl (by decide) (Or.inl q1893) (Or.inr q1894) (fun v1 => ?_)
  refine xs_a_n [0] F dJ29_values_4 hnL rfl rfl (xk2 rfl (xrf_cat _) xk0) ?_
  refine xr_aload_n 0 (r := v1) F dJ29_values_5 rfl ?_
  refine xr_ifnonnull 23 F dJ29_values_6 rfl ?_ ?_
  · refine xr_new F dJ29_values_9 xk_11 xdf_11 q1162 q1163 q182 (fun v9 => ?_)
    refine xr_dup F dJ29_values_12 (xrf_cat _) ?_
    refine xr_aload_n 1 (r := (some a0)) F dJ29_values_13 rfl ?_
    refine xr_IV (y := yJ40_init) (As := [va_rf (some a0)]) F (hno _) dJ29_values_14 (fJ40_init_m (xFG F) v9 (some a0)) rfl rfl q1166 (Or.inl q1164) q1165 (xroom hRm (Nat.le_of_ble_eq_true rfl) (Nat.le_of_ble_eq_true rfl)) ⟨by decide, by decide⟩ n_J40_init rfl (xcat (Nat.le_of_ble_eq_true rfl)) (fun _ => ?_)
    refine xs_a_n [1] F dJ29_values_17 hnL rfl rfl (xk2 rfl (xrf_cat _) xk0) ?_
    refine xr_aload_n 1 (r := (some a0)) F dJ29_values_18 rfl ?_
    refine xr_aload_n 0 (r := (some v9)) F dJ29_values_19 rfl ?_
    refine xr_put (r := (some a0)) (ref := "java/util/TreeMap") F dJ29_values_20 xk_16 (by decide) (Or.inl q1893) (Or.inr q1894) (Or.inl rfl) (xr_rf _ _) ?_
    refine xr_aload_n 0 (r := (some v9)) F dJ29_values_23 rfl ?_
    exact xr_aret (v := (some v9)) F dJ29_values_24 (Or.inl ⟨_, rfl⟩)
  · refine xr_aload_n 0 (r := v1) F dJ29_values_23 rfl ?_
    exact xr_aret (v := v1) F dJ29_values_24 (Or.inl ⟨_, rfl⟩)
theorem fJ19_isPositionIndex_m {l : Launch} {D : xD} {s0 : State} {b0 : Nat} {Γ : Nat → Option Nat} (G : xG l D s0 b0 Γ) (a0 : Nat) (p0 : Int32) : xMeth l D s0 Γ yJ19_isPositionIndex (Cond.code yJ19_isPositionIndex cJ19_isPositionIndex 2 (some .boolean)) (1) (12) [.ref a0, .int p0] xeI (fJ19_isPositionIndex a0 p0) := by
  refine xMeth.of (lv0 := [(0, va_rf (some a0)), (1, .int p0)]) G (by decide +kernel) (Or.inl rfl) (Nat.le_of_ble_eq_true rfl) rfl (fun x F hnL hRm hmn ht e1 e2 e3 e4 => ?_)
  have hno : ∀ pc, xNo x pc := fun pc z hz => by rw [ht.1 rfl] at hz; cases hz
  unfold fJ19_isPositionIndex
  refine xr_iload_n 1 F dJ19_isPositionIndex_0 rfl ?_
  refine xr_if_lt 16 F dJ19_isPositionIndex_1 rfl ?_ ?_
  · refine xr_iconst (0 : Int32) F dJ19_isPositionIndex_16 rfl ?_
    exact xr_zret F dJ19_isPositionIndex_17 rfl
  · refine xr_iload_n 1 F dJ19_isPositionIndex_4 rfl ?_
    refine xr_aload_n 0 (r := (some a0)) F dJ19_isPositionIndex_5 rfl ?_
    refine xr_gI (r := (some a0)) (ref := "java/util/LinkedList") F dJ19_isPositionIndex_6 (C := RJ19) (T := TJ19) (N := 4) rfl (by decide) (Or.inl q571) (Or.inl rfl) (fun v6 => ?_)
    refine xr_icmp_gt 16 F dJ19_isPositionIndex_9 rfl ?_ ?_
    · refine xr_iconst (0 : Int32) F dJ19_isPositionIndex_16 rfl ?_
      exact xr_zret F dJ19_isPositionIndex_17 rfl
    · refine xr_iconst (1 : Int32) F dJ19_isPositionIndex_12 rfl ?_
      refine xr_goto 17 F dJ19_isPositionIndex_13 rfl ?_
      exact xr_zret F dJ19_isPositionIndex_17 rfl
theorem fJ19_checkPositionIndex_m {l : Launch} {D : xD} {s0 : State} {b0 : Nat} {Γ : Nat → Option Nat} (G : xG l D s0 b0 Γ) (a0 : Nat) (p0 : Int32) : xMeth l D s0 Γ yJ19_checkPositionIndex (Cond.code yJ19_checkPositionIndex cJ19_checkPositionIndex 2 none) (2) (33) [.ref a0, .int p0] xeV (fJ19_checkPositionIndex a0 p0) := by
  refine xMeth.of (lv0 := [(0, va_rf (some a0)), (1, .int p0)]) G (by decide +kernel) (Or.inl rfl) (Nat.le_of_ble_eq_true rfl) rfl (fun x F hnL hRm hmn ht e1 e2 e3 e4 => ?_)
  have hno : ∀ pc, xNo x pc := fun pc z hz => by rw [ht.1 rfl] at hz; cases hz
  unfold fJ19_checkPositionIndex
  refine xr_aload_n 0 (r := (some a0)) F dJ19_checkPositionIndex_0 rfl ?_
  refine xr_iload_n 1 F dJ19_checkPositionIndex_1 rfl ?_
  refine xr_VI (y := yJ19_isPositionIndex) (As := [.int p0]) (r := (some a0)) F (hno _) dJ19_checkPositionIndex_2 (fun z => fJ19_isPositionIndex_m (xFG F) z p0) (Or.inl rfl) (ci := 6) (C := RJ19) (T := TJ19) rfl q782 q779 q781 qs5 (xroom hRm (Nat.le_of_ble_eq_true rfl) (Nat.le_of_ble_eq_true rfl)) ⟨by decide, by decide⟩ n_J19_isPositionIndex rfl (xcat (Nat.le_of_ble_eq_true rfl)) (fun v2 => ?_)
  refine xr_if_ne 21 F dJ19_checkPositionIndex_5 rfl ?_ ?_
  · exact xI.stuck
  · exact xr_vret F dJ19_checkPositionIndex_21
theorem fJ19_node_p17_ok {x : xC} (F : xF x RJ19 cJ19_node (some (.object "java/util/LinkedList$Node"))) (hnL : xnL x = 4) (hRm : ∃ dc ds, x.2.2.2.1 = { frames := 1, cells := dc, slots := ds, locals := 12 }) (hno : ∀ pc, xNo x pc) (hmn : xmn x = "node" ∧ xmy x yJ19_node) : ∀ (n : Nat) (l1 : Int32) (l2 : Option Nat) (l3 : Int32), xI x xeR 17 [(1, .int l1), (2, va_rf l2), (3, .int l3)] [] (fJ19_node_p17 n l1 l2 l3) := by
  intro n
  induction n with
  | zero => intro l1 l2 l3; exact xI.stuck
  | succ n ih =>
    intro l1 l2 l3
    unfold fJ19_node_p17
    refine xr_iload_n 2 F dJ19_node_17 rfl ?_
    refine xr_iload_n 0 F dJ19_node_18 rfl ?_
    refine xr_icmp_ge 33 F dJ19_node_19 rfl ?_ ?_
    · refine xr_aload_n 1 (r := l2) F dJ19_node_33 rfl ?_
      exact xr_aret (v := l2) F dJ19_node_34 (Or.inl ⟨_, rfl⟩)
    · refine xr_aload_n 1 (r := l2) F dJ19_node_22 rfl ?_
      refine xr_gR (r := l2) (ref := "java/util/LinkedList$Node") F dJ19_node_23 (C := RJ30) (T := TJ30) (N := 3) rfl (by decide) (Or.inl q2127) (Or.inl rfl) (fun v23 => ?_)
      refine xs_a_n [0, 2] F dJ19_node_26 hnL rfl rfl (xk2 rfl rfl (xk1 rfl rfl xk0)) ?_
      refine xs_inc [2, 0, 1] F dJ19_node_27 rfl hnL rfl rfl (xk2 rfl (xrf_cat _) (xk1 rfl rfl xk0)) (fun x3_27 => ?_)
      refine xr_goto 17 F dJ19_node_30 rfl ?_
      exact xI.sub [2, 1, 0] rfl (ih l1 v23 x3_27)
theorem fJ19_node_p47_ok {x : xC} (F : xF x RJ19 cJ19_node (some (.object "java/util/LinkedList$Node"))) (hnL : xnL x = 4) (hRm : ∃ dc ds, x.2.2.2.1 = { frames := 1, cells := dc, slots := ds, locals := 12 }) (hno : ∀ pc, xNo x pc) (hmn : xmn x = "node" ∧ xmy x yJ19_node) : ∀ (n : Nat) (l1 : Int32) (l2 : Option Nat) (l3 : Int32), xI x xeR 47 [(1, .int l1), (2, va_rf l2), (3, .int l3)] [] (fJ19_node_p47 n l1 l2 l3) := by
  intro n
  induction n with
  | zero => intro l1 l2 l3; exact xI.stuck
  | succ n ih =>
    intro l1 l2 l3
    unfold fJ19_node_p47
    refine xr_iload_n 2 F dJ19_node_47 rfl ?_
    refine xr_iload_n 0 F dJ19_node_48 rfl ?_
    refine xr_icmp_le 63 F dJ19_node_49 rfl ?_ ?_
    · refine xr_aload_n 1 (r := l2) F dJ19_node_63 rfl ?_
      exact xr_aret (v := l2) F dJ19_node_64 (Or.inl ⟨_, rfl⟩)
    · refine xr_aload_n 1 (r := l2) F dJ19_node_52 rfl ?_
      refine xr_gR (r := l2) (ref := "java/util/LinkedList$Node") F dJ19_node_53 (C := RJ30) (T := TJ30) (N := 3) rfl (by decide) (Or.inl q2129) (Or.inl rfl) (fun v53 => ?_)
      refine xs_a_n [0, 2] F dJ19_node_56 hnL rfl rfl (xk2 rfl rfl (xk1 rfl rfl xk0)) ?_
      refine xs_inc [2, 0, 1] F dJ19_node_57 rfl hnL rfl rfl (xk2 rfl (xrf_cat _) (xk1 rfl rfl xk0)) (fun x3_57 => ?_)
      refine xr_goto 47 F dJ19_node_60 rfl ?_
      exact xI.sub [2, 1, 0] rfl (ih l1 v53 x3_57)
theorem fJ19_node_m {l : Launch} {D : xD} {s0 : State} {b0 : Nat} {Γ : Nat → Option Nat} (G : xG l D s0 b0 Γ) (a0 : Nat) (p0 : Int32) : xMeth l D s0 Γ yJ19_node (Cond.code yJ19_node cJ19_node 4 (some (.object "java/util/LinkedList$Node"))) (1) (12) [.ref a0, .int p0] xeR (fJ19_node a0 p0) := by
  refine xMeth.of (lv0 := [(0, va_rf (some a0)), (1, .int p0)]) G (by decide +kernel) (Or.inl rfl) (Nat.le_of_ble_eq_true rfl) rfl (fun x F hnL hRm hmn ht e1 e2 e3 e4 => ?_)
  have hno : ∀ pc, xNo x pc := fun pc z hz => by rw [ht.1 rfl] at hz; cases hz
  unfold fJ19_node
  refine xr_iload_n 1 F dJ19_node_0 rfl ?_
  refine xr_aload_n 0 (r := (some a0)) F dJ19_node_1 rfl ?_
  refine xr_gI (r := (some a0)) (ref := "java/util/LinkedList") F dJ19_node_2 (C := RJ19) (T := TJ19) (N := 4) rfl (by decide) (Or.inl q571) (Or.inl rfl) (fun v2 => ?_)
  refine xr_iconst (1 : Int32) F dJ19_node_5 rfl ?_
  refine xr_ishr F dJ19_node_6 ?_
  refine xr_icmp_ge 35 F dJ19_node_7 rfl ?_ ?_
  · refine xr_aload_n 0 (r := (some a0)) F dJ19_node_35 rfl ?_
    refine xr_gR (r := (some a0)) (ref := "java/util/LinkedList") F dJ19_node_36 (C := RJ19) (T := TJ19) (N := 4) rfl (by decide) (Or.inl q574) (Or.inl rfl) (fun v36 => ?_)
    refine xs_a_n [0, 1] F dJ19_node_39 hnL rfl rfl (xk1 rfl rfl (xk2 rfl rfl xk0)) ?_
    refine xr_aload_n 1 (r := (some a0)) F dJ19_node_40 rfl ?_
    refine xr_gI (r := (some a0)) (ref := "java/util/LinkedList") F dJ19_node_41 (C := RJ19) (T := TJ19) (N := 4) rfl (by decide) (Or.inl q571) (Or.inl rfl) (fun v41 => ?_)
    refine xr_iconst (1 : Int32) F dJ19_node_44 rfl ?_
    refine xr_isub F dJ19_node_45 ?_
    refine xr_letI (fun x3_46 => ?_)
    refine xs_i_n [0, 2] F dJ19_node_46 hnL rfl rfl (xk2 rfl (xrf_cat _) (xk1 rfl rfl xk0)) ?_
    exact xI.sub [2, 1, 0] rfl (fJ19_node_p47_ok F hnL hRm hno hmn xFU p0 v36 x3_46)
  · refine xr_aload_n 0 (r := (some a0)) F dJ19_node_10 rfl ?_
    refine xr_gR (r := (some a0)) (ref := "java/util/LinkedList") F dJ19_node_11 (C := RJ19) (T := TJ19) (N := 4) rfl (by decide) (Or.inl q573) (Or.inl rfl) (fun v11 => ?_)
    refine xs_a_n [1] F dJ19_node_14 hnL rfl rfl (xk2 rfl rfl xk0) ?_
    refine xr_iconst (0 : Int32) F dJ19_node_15 rfl ?_
    refine xr_letI (fun x3_16 => ?_)
    refine xs_i_n [0, 1] F dJ19_node_16 hnL rfl rfl (xk2 rfl (xrf_cat _) (xk1 rfl rfl xk0)) ?_
    exact xI.sub [2, 1, 0] rfl (fJ19_node_p17_ok F hnL hRm hno hmn xFU p0 v11 x3_16)
theorem fJ24_init_p38_ok {x : xC} (F : xF x RJ24 cJ24_init none) (hnL : xnL x = 3) (hRm : ∃ dc ds, x.2.2.2.1 = { frames := 2, cells := dc, slots := ds, locals := 35 }) (hno : ∀ pc, xNo x pc) (hmn : xmn x = "<init>" ∧ xmy x yJ24_init) (l0 : Nat) (l2 : Int32) (s0 : Option Nat) (s1 : Nat) : xI x xeV 38 [(0, va_rf (some l0)), (2, .int l2)] [va_rf s0, va_rf (some s1)] (fJ24_init_p38 l0 l2 s0 s1) := by
  unfold fJ24_init_p38
  refine xr_put (r := (some s1)) (ref := "java/util/LinkedList$ListItr") F dJ24_init_38 xk_9 (by decide) (Or.inl q807) (Or.inl rfl) (Or.inl rfl) (xr_rf _ _) ?_
  refine xr_aload_n 0 (r := (some l0)) F dJ24_init_41 rfl ?_
  refine xr_iload_n 1 F dJ24_init_42 rfl ?_
  refine xr_put (r := (some l0)) (ref := "java/util/LinkedList$ListItr") F dJ24_init_43 xk_9 (by decide) (Or.inl q808) (Or.inl rfl) (Or.inl rfl) ⟨rfl, rfl⟩ ?_
  exact xr_vret F dJ24_init_46
theorem fJ24_init_m {l : Launch} {D : xD} {s0 : State} {b0 : Nat} {Γ : Nat → Option Nat} (G : xG l D s0 b0 Γ) (a0 : Nat) (p0 : Option Nat) (p1 : Int32) : xMeth l D s0 Γ yJ24_init (Cond.code yJ24_init cJ24_init 3 none) (2) (35) [.ref a0, va_rf p0, .int p1] xeV (fJ24_init a0 p0 p1) := by
  refine xMeth.of (lv0 := [(0, va_rf (some a0)), (1, va_rf p0), (2, .int p1)]) G (by decide +kernel) (Or.inl rfl) (by simp [lg_sl, xrf_cat, xct_i, xct_l, xct_d, xct_r]) (by simp [lv_args, xrf_cat, xct_i, xct_l, xct_d, xct_r, xrf_some]) (fun x F hnL hRm hmn ht e1 e2 e3 e4 => ?_)
  have hno : ∀ pc, xNo x pc := fun pc z hz => by rw [ht.1 rfl] at hz; cases hz
  unfold fJ24_init
  refine xr_aload_n 0 (r := (some a0)) F dJ24_init_0 rfl ?_
  refine xr_aload_n 1 (r := p0) F dJ24_init_1 rfl ?_
  refine xr_put (r := (some a0)) (ref := "java/util/LinkedList$ListItr") F dJ24_init_2 xk_9 (by decide) (Or.inl q810) (Or.inl rfl) (Or.inr ⟨rfl, hmn.1, rfl, q810⟩) (xr_rf _ _) ?_
  refine xr_aload_n 0 (r := (some a0)) F dJ24_init_5 rfl ?_
  refine xr_obj F dJ24_init_6 q801 q200 (q_objcode) (xroom hRm (Nat.le_of_ble_eq_true rfl) (Nat.le_of_ble_eq_true rfl)) (xcat (Nat.le_of_ble_eq_true rfl)) ?_
  refine xr_aload_n 0 (r := (some a0)) F dJ24_init_9 rfl ?_
  refine xr_aload_n 0 (r := (some a0)) F dJ24_init_10 rfl ?_
  refine xr_gR (r := (some a0)) (ref := "java/util/LinkedList$ListItr") F dJ24_init_11 (C := RJ24) (T := TJ24) (N := 5) rfl (by decide) (Or.inl q810) (Or.inl rfl) (fun v11 => ?_)
  refine xr_gI (r := v11) (ref := "java/util/LinkedList") F dJ24_init_14 (C := RJ19) (T := TJ19) (N := 4) rfl (by decide) (Or.inl q548) (Or.inr q549) (fun v14 => ?_)
  refine xr_put (r := (some a0)) (ref := "java/util/LinkedList$ListItr") F dJ24_init_17 xk_9 (by decide) (Or.inl q809) (Or.inl rfl) (Or.inl rfl) ⟨rfl, rfl⟩ ?_
  refine xr_aload_n 0 (r := (some a0)) F dJ24_init_20 rfl ?_
  refine xr_iload_n 2 F dJ24_init_21 rfl ?_
  refine xr_aload_n 1 (r := p0) F dJ24_init_22 rfl ?_
  refine xr_gI (r := p0) (ref := "java/util/LinkedList") F dJ24_init_23 (C := RJ19) (T := TJ19) (N := 4) rfl (by decide) (Or.inl q572) (Or.inl rfl) (fun v23 => ?_)
  refine xr_icmp_ne 33 F dJ24_init_26 rfl ?_ ?_
  · refine xr_null F dJ24_init_29 ?_
    refine xr_goto 38 F dJ24_init_30 rfl ?_
    exact xI.sub [0, 2] rfl (fJ24_init_p38_ok F hnL hRm hno hmn a0 p1 none a0)
  · refine xr_aload_n 1 (r := p0) F dJ24_init_33 rfl ?_
    refine xr_iload_n 2 F dJ24_init_34 rfl ?_
    refine xr_VR (y := yJ19_node) (As := [.int p1]) (r := p0) F (hno _) dJ24_init_35 (fun z => fJ19_node_m (xFG F) z p1) (Or.inl rfl) (ci := 6) (C := RJ19) (T := TJ19) rfl q805 q802 q803 q804 (xroom hRm (Nat.le_of_ble_eq_true rfl) (Nat.le_of_ble_eq_true rfl)) ⟨by decide, by decide⟩ n_J19_node rfl (xcat (Nat.le_of_ble_eq_true rfl)) (fun v35 => ?_)
    exact xI.sub [0, 2] rfl (fJ24_init_p38_ok F hnL hRm hno hmn a0 p1 v35 a0)
theorem fJ19_listIterator_m {l : Launch} {D : xD} {s0 : State} {b0 : Nat} {Γ : Nat → Option Nat} (G : xG l D s0 b0 Γ) (a0 : Nat) (p0 : Int32) : xMeth l D s0 Γ yJ19_listIterator (Cond.code yJ19_listIterator cJ19_listIterator 2 (some (.object "java/util/ListIterator"))) (3) (57) [.ref a0, .int p0] xeR (fJ19_listIterator a0 p0) := by
  refine xMeth.of (lv0 := [(0, va_rf (some a0)), (1, .int p0)]) G (by decide +kernel) (Or.inl rfl) (Nat.le_of_ble_eq_true rfl) rfl (fun x F hnL hRm hmn ht e1 e2 e3 e4 => ?_)
  have hno : ∀ pc, xNo x pc := fun pc z hz => by rw [ht.1 rfl] at hz; cases hz
  unfold fJ19_listIterator
  refine xr_aload_n 0 (r := (some a0)) F dJ19_listIterator_0 rfl ?_
  refine xr_iload_n 1 F dJ19_listIterator_1 rfl ?_
  refine xr_VV (y := yJ19_checkPositionIndex) (As := [.int p0]) (r := (some a0)) F (hno _) dJ19_listIterator_2 (fun z => fJ19_checkPositionIndex_m (xFG F) z p0) (Or.inl rfl) (ci := 6) (C := RJ19) (T := TJ19) rfl q778 q775 q777 qs4 (xroom hRm (Nat.le_of_ble_eq_true rfl) (Nat.le_of_ble_eq_true rfl)) ⟨by decide, by decide⟩ n_J19_checkPositionIndex rfl (xcat (Nat.le_of_ble_eq_true rfl)) (fun _ => ?_)
  refine xr_new F dJ19_listIterator_5 xk_9 xdf_9 q796 q797 q152 (fun v5 => ?_)
  refine xr_dup F dJ19_listIterator_8 (xrf_cat _) ?_
  refine xr_aload_n 0 (r := (some a0)) F dJ19_listIterator_9 rfl ?_
  refine xr_iload_n 1 F dJ19_listIterator_10 rfl ?_
  refine xr_IV (y := yJ24_init) (As := [va_rf (some a0), .int p0]) F (hno _) dJ19_listIterator_11 (fJ24_init_m (xFG F) v5 (some a0) p0) rfl rfl q800 (Or.inl q798) q799 (xroom hRm (Nat.le_of_ble_eq_true rfl) (Nat.le_of_ble_eq_true rfl)) ⟨by decide, by decide⟩ n_J24_init rfl (xcat (Nat.le_of_ble_eq_true rfl)) (fun _ => ?_)
  exact xr_aret (v := (some v5)) F dJ19_listIterator_14 (Or.inl ⟨_, rfl⟩)
theorem fJ1_listIterator__J19_m {l : Launch} {D : xD} {s0 : State} {b0 : Nat} {Γ : Nat → Option Nat} (G : xG l D s0 b0 Γ) (a0 : Nat) : xMeth l D s0 Γ yJ1_listIterator (Cond.code yJ1_listIterator cJ1_listIterator 1 (some (.object "java/util/ListIterator"))) (4) (78) [.ref a0] xeR (fJ1_listIterator__J19 a0) := by
  refine xMeth.of (lv0 := [(0, va_rf (some a0))]) G (by decide +kernel) (Or.inl rfl) (Nat.le_of_ble_eq_true rfl) rfl (fun x F hnL hRm hmn ht e1 e2 e3 e4 => ?_)
  have hno : ∀ pc, xNo x pc := fun pc z hz => by rw [ht.1 rfl] at hz; cases hz
  unfold fJ1_listIterator__J19
  refine xr_aload_n 0 (r := (some a0)) F dJ1_listIterator_0 rfl ?_
  refine xr_iconst (0 : Int32) F dJ1_listIterator_1 rfl ?_
  refine xr_UR (x0 := ⟨"java/util/AbstractList", "listIterator", "(I)Ljava/util/ListIterator;"⟩) (y := yJ19_listIterator) (As := [.int (0 : Int32)]) (r := (some a0)) F (hno _) dJ1_listIterator_2 (fun z => fJ19_listIterator_m (xFG F) z (0 : Int32)) rfl (ci := 6) (C := RJ19) (T := TJ19) rfl q774 q727 q773 q772 q729 (Or.inr q822) (xroom hRm (Nat.le_of_ble_eq_true rfl) (Nat.le_of_ble_eq_true rfl)) ⟨by decide, by decide⟩ n_J19_listIterator rfl (xcat (Nat.le_of_ble_eq_true rfl)) (fun v2 => ?_)
  exact xr_aret (v := v2) F dJ1_listIterator_5 (Or.inl ⟨_, rfl⟩)
theorem fJ18_iterator__J19_m {l : Launch} {D : xD} {s0 : State} {b0 : Nat} {Γ : Nat → Option Nat} (G : xG l D s0 b0 Γ) (a0 : Nat) : xMeth l D s0 Γ yJ18_iterator (Cond.code yJ18_iterator cJ18_iterator 1 (some (.object "java/util/Iterator"))) (5) (98) [.ref a0] xeR (fJ18_iterator__J19 a0) := by
  refine xMeth.of (lv0 := [(0, va_rf (some a0))]) G (by decide +kernel) (Or.inl rfl) (Nat.le_of_ble_eq_true rfl) rfl (fun x F hnL hRm hmn ht e1 e2 e3 e4 => ?_)
  have hno : ∀ pc, xNo x pc := fun pc z hz => by rw [ht.1 rfl] at hz; cases hz
  unfold fJ18_iterator__J19
  refine xr_aload_n 0 (r := (some a0)) F dJ18_iterator_0 rfl ?_
  refine xr_UR (x0 := ⟨"java/util/AbstractSequentialList", "listIterator", "()Ljava/util/ListIterator;"⟩) (y := yJ1_listIterator) (As := []) (r := (some a0)) F (hno _) dJ18_iterator_1 (fun z => fJ1_listIterator__J19_m (xFG F) z) rfl (ci := 6) (C := RJ19) (T := TJ19) rfl q726 q721 q725 q724 q722 (Or.inr q723) (xroom hRm (Nat.le_of_ble_eq_true rfl) (Nat.le_of_ble_eq_true rfl)) ⟨by decide, by decide⟩ n_J1_listIterator rfl (xcat (Nat.le_of_ble_eq_true rfl)) (fun v1 => ?_)
  exact xr_aret (v := v1) F dJ18_iterator_4 (Or.inl ⟨_, rfl⟩)
theorem fJ38_init__J43_m {l : Launch} {D : xD} {s0 : State} {b0 : Nat} {Γ : Nat → Option Nat} (G : xG l D s0 b0 Γ) (a0 : Nat) (p0 : Option Nat) (p1 : Option Nat) : xMeth l D s0 Γ yJ38_init (Cond.code yJ38_init cJ38_init 3 none) (1) (20) [.ref a0, va_rf p0, va_rf p1] xeV (fJ38_init__J43 a0 p0 p1) := by
  refine xMeth.of (lv0 := [(0, va_rf (some a0)), (1, va_rf p0), (2, va_rf p1)]) G (by decide +kernel) (Or.inl rfl) (by simp [lg_sl, xrf_cat, xct_i, xct_l, xct_d, xct_r]) (by simp [lv_args, xrf_cat, xct_i, xct_l, xct_d, xct_r, xrf_some]) (fun x F hnL hRm hmn ht e1 e2 e3 e4 => ?_)
  have hno : ∀ pc, xNo x pc := fun pc z hz => by rw [ht.1 rfl] at hz; cases hz
  unfold fJ38_init__J43
  refine xr_aload_n 0 (r := (some a0)) F dJ38_init_0 rfl ?_
  refine xr_aload_n 1 (r := p0) F dJ38_init_1 rfl ?_
  refine xr_put (r := (some a0)) (ref := "java/util/TreeMap$PrivateEntryIterator") F dJ38_init_2 xk_14 (by decide) (Or.inl q1265) (Or.inl rfl) (Or.inr ⟨rfl, hmn.1, rfl, q1265⟩) (xr_rf _ _) ?_
  refine xr_aload_n 0 (r := (some a0)) F dJ38_init_5 rfl ?_
  refine xr_obj F dJ38_init_6 q1261 q200 (q_objcode) (xroom hRm (Nat.le_of_ble_eq_true rfl) (Nat.le_of_ble_eq_true rfl)) (xcat (Nat.le_of_ble_eq_true rfl)) ?_
  refine xr_aload_n 0 (r := (some a0)) F dJ38_init_9 rfl ?_
  refine xr_aload_n 1 (r := p0) F dJ38_init_10 rfl ?_
  refine xr_gI (r := p0) (ref := "java/util/TreeMap") F dJ38_init_11 (C := RJ29) (T := TJ29) (N := 9) rfl (by decide) (Or.inr ⟨_, q1891⟩) (Or.inl rfl) (fun v11 => ?_)
  refine xr_put (r := (some a0)) (ref := "java/util/TreeMap$PrivateEntryIterator") F dJ38_init_14 xk_14 (by decide) (Or.inl q1264) (Or.inl rfl) (Or.inl rfl) ⟨rfl, rfl⟩ ?_
  refine xr_aload_n 0 (r := (some a0)) F dJ38_init_17 rfl ?_
  refine xr_null F dJ38_init_18 ?_
  refine xr_put (r := (some a0)) (ref := "java/util/TreeMap$PrivateEntryIterator") F dJ38_init_19 xk_14 (by decide) (Or.inl q1263) (Or.inl rfl) (Or.inl rfl) (xr_rf _ _) ?_
  refine xr_aload_n 0 (r := (some a0)) F dJ38_init_22 rfl ?_
  refine xr_aload_n 2 (r := p1) F dJ38_init_23 rfl ?_
  refine xr_put (r := (some a0)) (ref := "java/util/TreeMap$PrivateEntryIterator") F dJ38_init_24 xk_14 (by decide) (Or.inl q1262) (Or.inl rfl) (Or.inl rfl) (xr_rf _ _) ?_
  exact xr_vret F dJ38_init_27
theorem fJ43_init_m {l : Launch} {D : xD} {s0 : State} {b0 : Nat} {Γ : Nat → Option Nat} (G : xG l D s0 b0 Γ) (a0 : Nat) (p0 : Option Nat) (p1 : Option Nat) : xMeth l D s0 Γ yJ43_init (Cond.code yJ43_init cJ43_init 3 none) (2) (42) [.ref a0, va_rf p0, va_rf p1] xeV (fJ43_init a0 p0 p1) := by
  refine xMeth.of (lv0 := [(0, va_rf (some a0)), (1, va_rf p0), (2, va_rf p1)]) G (by decide +kernel) (Or.inl rfl) (by simp [lg_sl, xrf_cat, xct_i, xct_l, xct_d, xct_r]) (by simp [lv_args, xrf_cat, xct_i, xct_l, xct_d, xct_r, xrf_some]) (fun x F hnL hRm hmn ht e1 e2 e3 e4 => ?_)
  have hno : ∀ pc, xNo x pc := fun pc z hz => by rw [ht.1 rfl] at hz; cases hz
  unfold fJ43_init
  refine xr_aload_n 0 (r := (some a0)) F dJ43_init_0 rfl ?_
  refine xr_aload_n 1 (r := p0) F dJ43_init_1 rfl ?_
  refine xr_aload_n 2 (r := p1) F dJ43_init_2 rfl ?_
  refine xr_IV (y := yJ38_init) (As := [va_rf p0, va_rf p1]) F (hno _) dJ43_init_3 (fJ38_init__J43_m (xFG F) a0 p0 p1) rfl rfl q1260 (Or.inl q1287) q1259 (xroom hRm (Nat.le_of_ble_eq_true rfl) (Nat.le_of_ble_eq_true rfl)) ⟨by decide, by decide⟩ n_J38_init rfl (xcat (Nat.le_of_ble_eq_true rfl)) (fun _ => ?_)
  exact xr_vret F dJ43_init_6
theorem fJ40_iterator_m {l : Launch} {D : xD} {s0 : State} {b0 : Nat} {Γ : Nat → Option Nat} (G : xG l D s0 b0 Γ) (a0 : Nat) : xMeth l D s0 Γ yJ40_iterator (Cond.code yJ40_iterator cJ40_iterator 1 (some (.object "java/util/Iterator"))) (3) (64) [.ref a0] xeR (fJ40_iterator a0) := by
  refine xMeth.of (lv0 := [(0, va_rf (some a0))]) G (by decide +kernel) (Or.inl rfl) (Nat.le_of_ble_eq_true rfl) rfl (fun x F hnL hRm hmn ht e1 e2 e3 e4 => ?_)
  have hno : ∀ pc, xNo x pc := fun pc z hz => by rw [ht.1 rfl] at hz; cases hz
  unfold fJ40_iterator
  refine xr_new F dJ40_iterator_0 xk_14 xdf_14 q1281 q1282 q185 (fun v0 => ?_)
  refine xr_dup F dJ40_iterator_3 (xrf_cat _) ?_
  refine xr_aload_n 0 (r := (some a0)) F dJ40_iterator_4 rfl ?_
  refine xr_gR (r := (some a0)) (ref := "java/util/TreeMap$Values") F dJ40_iterator_5 (C := RJ40) (T := TJ40) (N := 1) rfl (by decide) (Or.inl q1168) (Or.inl rfl) (fun v5 => ?_)
  refine xr_aload_n 0 (r := (some a0)) F dJ40_iterator_8 rfl ?_
  refine xr_gR (r := (some a0)) (ref := "java/util/TreeMap$Values") F dJ40_iterator_9 (C := RJ40) (T := TJ40) (N := 1) rfl (by decide) (Or.inl q1168) (Or.inl rfl) (fun v9 => ?_)
  refine xr_VR (y := yJ29_getFirstEntry) (As := []) (r := v9) F (hno _) dJ40_iterator_12 (fun z => fJ29_getFirstEntry_m (xFG F) z) (Or.inl rfl) (ci := 16) (C := RJ29) (T := TJ29) rfl q1254 q1283 q1252 q1253 (xroom hRm (Nat.le_of_ble_eq_true rfl) (Nat.le_of_ble_eq_true rfl)) ⟨by decide, by decide⟩ n_J29_getFirstEntry rfl (xcat (Nat.le_of_ble_eq_true rfl)) (fun v12 => ?_)
  refine xr_IV (y := yJ43_init) (As := [va_rf v5, va_rf v12]) F (hno _) dJ40_iterator_15 (fJ43_init_m (xFG F) v0 v5 v12) rfl rfl q1286 (Or.inl q1284) q1285 (xroom hRm (Nat.le_of_ble_eq_true rfl) (Nat.le_of_ble_eq_true rfl)) ⟨by decide, by decide⟩ n_J43_init rfl (xcat (Nat.le_of_ble_eq_true rfl)) (fun _ => ?_)
  exact xr_aret (v := (some v0)) F dJ40_iterator_18 (Or.inl ⟨_, rfl⟩)
theorem fJ41_init_m {l : Launch} {D : xD} {s0 : State} {b0 : Nat} {Γ : Nat → Option Nat} (G : xG l D s0 b0 Γ) (a0 : Nat) (p0 : Option Nat) : xMeth l D s0 Γ yJ41_init (Cond.code yJ41_init cJ41_init 2 none) (3) (54) [.ref a0, va_rf p0] xeV (fJ41_init a0 p0) := by
  refine xMeth.of (lv0 := [(0, va_rf (some a0)), (1, va_rf p0)]) G (by decide +kernel) (Or.inl rfl) (by simp [lg_sl, xrf_cat, xct_i, xct_l, xct_d, xct_r]) (by simp [lv_args, xrf_cat, xct_i, xct_l, xct_d, xct_r, xrf_some]) (fun x F hnL hRm hmn ht e1 e2 e3 e4 => ?_)
  have hno : ∀ pc, xNo x pc := fun pc z hz => by rw [ht.1 rfl] at hz; cases hz
  unfold fJ41_init
  refine xr_aload_n 0 (r := (some a0)) F dJ41_init_0 rfl ?_
  refine xr_aload_n 1 (r := p0) F dJ41_init_1 rfl ?_
  refine xr_put (r := (some a0)) (ref := "java/util/ArrayDeque$DeqIterator") F dJ41_init_2 xk_12 (by decide) (Or.inl q1198) (Or.inl rfl) (Or.inr ⟨rfl, hmn.1, rfl, q1198⟩) (xr_rf _ _) ?_
  refine xr_aload_n 0 (r := (some a0)) F dJ41_init_5 rfl ?_
  refine xr_obj F dJ41_init_6 q1187 q200 (q_objcode) (xroom hRm (Nat.le_of_ble_eq_true rfl) (Nat.le_of_ble_eq_true rfl)) (xcat (Nat.le_of_ble_eq_true rfl)) ?_
  refine xr_aload_n 0 (r := (some a0)) F dJ41_init_9 rfl ?_
  refine xr_aload_n 0 (r := (some a0)) F dJ41_init_10 rfl ?_
  refine xr_gR (r := (some a0)) (ref := "java/util/ArrayDeque$DeqIterator") F dJ41_init_11 (C := RJ41) (T := TJ41) (N := 4) rfl (by decide) (Or.inl q1198) (Or.inl rfl) (fun v11 => ?_)
  refine xr_VI (y := yJ27_size) (As := []) (r := v11) F (hno _) dJ41_init_14 (fun z => fJ27_size_m (xFG F) z) (Or.inl rfl) (ci := 23) (C := RJ27) (T := TJ27) rfl q1191 q1188 q1189 q1190 (xroom hRm (Nat.le_of_ble_eq_true rfl) (Nat.le_of_ble_eq_true rfl)) ⟨by decide, by decide⟩ n_J27_size rfl (xcat (Nat.le_of_ble_eq_true rfl)) (fun v14 => ?_)
  refine xr_put (r := (some a0)) (ref := "java/util/ArrayDeque$DeqIterator") F dJ41_init_17 xk_12 (by decide) (Or.inl q1196) (Or.inl rfl) (Or.inl rfl) ⟨rfl, rfl⟩ ?_
  refine xr_aload_n 0 (r := (some a0)) F dJ41_init_20 rfl ?_
  refine xr_iconst (-1 : Int32) F dJ41_init_21 rfl ?_
  refine xr_put (r := (some a0)) (ref := "java/util/ArrayDeque$DeqIterator") F dJ41_init_22 xk_12 (by decide) (Or.inl q1197) (Or.inl rfl) (Or.inl rfl) ⟨rfl, rfl⟩ ?_
  refine xr_aload_n 0 (r := (some a0)) F dJ41_init_25 rfl ?_
  refine xr_aload_n 1 (r := p0) F dJ41_init_26 rfl ?_
  refine xr_gI (r := p0) (ref := "java/util/ArrayDeque") F dJ41_init_27 (C := RJ27) (T := TJ27) (N := 3) rfl (by decide) (Or.inl q2002) (Or.inl rfl) (fun v27 => ?_)
  refine xr_put (r := (some a0)) (ref := "java/util/ArrayDeque$DeqIterator") F dJ41_init_30 xk_12 (by decide) (Or.inl q1195) (Or.inl rfl) (Or.inl rfl) ⟨rfl, rfl⟩ ?_
  exact xr_vret F dJ41_init_33
theorem fJ27_iterator_m {l : Launch} {D : xD} {s0 : State} {b0 : Nat} {Γ : Nat → Option Nat} (G : xG l D s0 b0 Γ) (a0 : Nat) : xMeth l D s0 Γ yJ27_iterator (Cond.code yJ27_iterator cJ27_iterator 1 (some (.object "java/util/Iterator"))) (4) (75) [.ref a0] xeR (fJ27_iterator a0) := by
  refine xMeth.of (lv0 := [(0, va_rf (some a0))]) G (by decide +kernel) (Or.inl rfl) (Nat.le_of_ble_eq_true rfl) rfl (fun x F hnL hRm hmn ht e1 e2 e3 e4 => ?_)
  have hno : ∀ pc, xNo x pc := fun pc z hz => by rw [ht.1 rfl] at hz; cases hz
  unfold fJ27_iterator
  refine xr_new F dJ27_iterator_0 xk_12 xdf_12 q1182 q1183 q183 (fun v0 => ?_)
  refine xr_dup F dJ27_iterator_3 (xrf_cat _) ?_
  refine xr_aload_n 0 (r := (some a0)) F dJ27_iterator_4 rfl ?_
  refine xr_IV (y := yJ41_init) (As := [va_rf (some a0)]) F (hno _) dJ27_iterator_5 (fJ41_init_m (xFG F) v0 (some a0)) rfl rfl q1186 (Or.inl q1184) q1185 (xroom hRm (Nat.le_of_ble_eq_true rfl) (Nat.le_of_ble_eq_true rfl)) ⟨by decide, by decide⟩ n_J41_init rfl (xcat (Nat.le_of_ble_eq_true rfl)) (fun _ => ?_)
  exact xr_aret (v := (some v0)) F dJ27_iterator_8 (Or.inl ⟨_, rfl⟩)
theorem fJ45_iterator_m {l : Launch} {D : xD} {s0 : State} {b0 : Nat} {Γ : Nat → Option Nat} (G : xG l D s0 b0 Γ) (a0 : Nat) : xMeth l D s0 Γ yJ45_iterator (Cond.code yJ45_iterator cJ45_iterator 1 (some (.object "java/util/Iterator"))) (1) (12) [.ref a0] xeR (fJ45_iterator a0) := by
  refine xMeth.of (lv0 := [(0, va_rf (some a0))]) G (by decide +kernel) (Or.inl rfl) (Nat.le_of_ble_eq_true rfl) rfl (fun x F hnL hRm hmn ht e1 e2 e3 e4 => ?_)
  have hno : ∀ pc, xNo x pc := fun pc z hz => by rw [ht.1 rfl] at hz; cases hz
  unfold fJ45_iterator
  exact xI.stuck
theorem fX1_sum_p52_ok {x : xC} (F : xF x RX1 cX1_sum (some .long)) (hnL : xnL x = 9) (hRm : ∃ dc ds, x.2.2.2.1 = { frames := 8, cells := dc, slots := ds, locals := 3121 }) (hno : ∀ pc, xNo x pc) (hmn : xmn x = "sum" ∧ xmy x yX1_sum) : ∀ (n : Nat) (l4 : Option Nat) (l5 : Int64) (l7 : Option Nat), xI x xeJ 52 [(4, va_rf l4), (5, .long l5), (7, va_rf l7)] [] (fX1_sum_p52 n l4 l5 l7) := by
  intro n
  induction n with
  | zero => intro l4 l5 l7; exact xI.stuck
  | succ n ih =>
    intro l4 l5 l7
    unfold fX1_sum_p52
    refine xr_aload 2 (r := l7) F dX1_sum_52 rfl ?_
    refine xr_FI (x0 := ⟨"java/util/Iterator", "hasNext", "()Z"⟩) (y := yJ38_hasNext) (As := []) (r := l7) F (hno _) dX1_sum_54 (fun z => fJ38_hasNext__J43_m (xFG F) z) rfl (ci := 14) (C := RJ43) (T := TJ43) rfl q878 q824 q876 q880 q826 q825 q877 q881 q879 (xroom hRm (Nat.le_of_ble_eq_true rfl) (Nat.le_of_ble_eq_true rfl)) ⟨by decide, by decide⟩ n_J38_hasNext rfl (xcat (Nat.le_of_ble_eq_true rfl)) (fun v54 => ?_)
    refine xr_if_eq 92 F dX1_sum_59 rfl ?_ ?_
    · refine xr_lload 1 F dX1_sum_92 rfl ?_
      exact xr_lret F dX1_sum_94
    · refine xr_aload 2 (r := l7) F dX1_sum_62 rfl ?_
      refine xr_FR (x0 := ⟨"java/util/Iterator", "next", "()Ljava/lang/Object;"⟩) (y := yJ43_next) (As := []) (r := l7) F (hno _) dX1_sum_64 (fun z => fJ43_next_m (xFG F) z) rfl (ci := 14) (C := RJ43) (T := TJ43) rfl q1141 q883 q1139 q1137 q885 q884 q1140 q1138 q879 (xroom hRm (Nat.le_of_ble_eq_true rfl) (Nat.le_of_ble_eq_true rfl)) ⟨by decide, by decide⟩ n_J43_next rfl (xcat (Nat.le_of_ble_eq_true rfl)) (fun v64 => ?_)
      refine xr_castE (ci := 22) (r := v64) F dX1_sum_69 q1293 rfl ?_
      refine xs_a [0, 1, 2] F dX1_sum_72 hnL rfl rfl (xk1 rfl rfl (xk1 rfl rfl (xk2 rfl (xrf_cat _) xk0))) ?_
      refine xr_lload 2 F dX1_sum_74 rfl ?_
      refine xr_aload 1 (r := l4) F dX1_sum_76 rfl ?_
      refine xr_aload 0 (r := v64) F dX1_sum_78 rfl ?_
      refine xI.alt2 (Kp := ∀ (v80 : Int32), xI x xeJ 85 [(8, va_rf v64), (4, va_rf l4), (5, .long l5), (7, va_rf l7)] [.int v80, .long l5] _) ?_ (fun hK => xrL_3 (r := l4) v64 F (hno _) dX1_sum_80 q2639 (xroom hRm (Nat.le_of_ble_eq_true rfl) (Nat.le_of_ble_eq_true rfl)) rfl (xcat (Nat.le_of_ble_eq_true rfl)) hK) (fun hK => (xI.alt2 hK (fun hK => xrL_4 (r := l4) v64 F (hno _) dX1_sum_80 q2639 (xroom hRm (Nat.le_of_ble_eq_true rfl) (Nat.le_of_ble_eq_true rfl)) rfl (xcat (Nat.le_of_ble_eq_true rfl)) hK) (fun hK => (xI.alt2 hK (fun hK => xrL_5 (r := l4) v64 F (hno _) dX1_sum_80 q2639 (xroom hRm (Nat.le_of_ble_eq_true rfl) (Nat.le_of_ble_eq_true rfl)) rfl (xcat (Nat.le_of_ble_eq_true rfl)) hK) (fun hK => (xI.alt2 hK (fun hK => xrL_6 (r := l4) v64 F (hno _) dX1_sum_80 q2639 (xroom hRm (Nat.le_of_ble_eq_true rfl) (Nat.le_of_ble_eq_true rfl)) rfl (xcat (Nat.le_of_ble_eq_true rfl)) hK) (fun hK => (xI.alt2 hK (fun hK => xrL_7 (r := l4) v64 F (hno _) dX1_sum_80 q2639 (xroom hRm (Nat.le_of_ble_eq_true rfl) (Nat.le_of_ble_eq_true rfl)) rfl (xcat (Nat.le_of_ble_eq_true rfl)) hK) (fun hK => (xI.alt2 hK (fun hK => xrL_8 (r := l4) v64 F (hno _) dX1_sum_80 q2639 (xroom hRm (Nat.le_of_ble_eq_true rfl) (Nat.le_of_ble_eq_true rfl)) rfl (xcat (Nat.le_of_ble_eq_true rfl)) hK) (fun hK => (xrL_9 (r := l4) v64 F (hno _) dX1_sum_80 q2639 (xroom hRm (Nat.le_of_ble_eq_true rfl) (Nat.le_of_ble_eq_true rfl)) rfl (xcat (Nat.le_of_ble_eq_true rfl)) hK))))))))))))
      intro v80
      refine xr_i2l F dX1_sum_85 ?_
      refine xr_ladd F dX1_sum_86 ?_
      refine xr_letJ (fun x5_87 => ?_)
      refine xs_l [1, 3] F dX1_sum_87 hnL rfl rfl (xk2 rfl (xrf_cat _) (xk1 rfl rfl xk0)) (xk21 rfl (xk21 rfl xk20)) ?_
      refine xr_goto 52 F dX1_sum_89 rfl ?_
      exact xI.sub [1, 0, 2] rfl (ih l4 x5_87 l7)
theorem fX1_sum_m {l : Launch} {D : xD} {s0 : State} {b0 : Nat} {Γ : Nat → Option Nat} (G : xG l D s0 b0 Γ) (a0 : Nat) (p0 : Int32) (p1 : Int32) : xMeth l D s0 Γ yX1_sum (Cond.code yX1_sum cX1_sum 9 (some .long)) (8) (3121) [.ref a0, .int p0, .int p1] xeJ (fX1_sum a0 p0 p1) := by
  refine xMeth.of (lv0 := [(0, va_rf (some a0)), (1, .int p0), (2, .int p1)]) G (by decide +kernel) (Or.inl rfl) (Nat.le_of_ble_eq_true rfl) rfl (fun x F hnL hRm hmn ht e1 e2 e3 e4 => ?_)
  have hno : ∀ pc, xNo x pc := fun pc z hz => by rw [ht.1 rfl] at hz; cases hz
  unfold fX1_sum
  refine xr_aload_n 0 (r := (some a0)) F dX1_sum_0 rfl ?_
  refine xr_iload_n 1 F dX1_sum_1 rfl ?_
  refine xr_VR (y := yX1_herd) (As := [.int p0]) (r := (some a0)) F (hno _) dX1_sum_2 (fun z => fX1_herd_m (xFG F) z p0) (Or.inl rfl) (ci := 0) (C := RX1) (T := TX1) rfl q2504 q2501 q2503 qs34 (xroom hRm (Nat.le_of_ble_eq_true rfl) (Nat.le_of_ble_eq_true rfl)) ⟨by decide, by decide⟩ n_X1_herd rfl (xcat (Nat.le_of_ble_eq_true rfl)) (fun v2 => ?_)
  refine xs_a_n [2] F dX1_sum_5 hnL rfl rfl (xk2 rfl rfl xk0) ?_
  refine xr_iload_n 1 F dX1_sum_6 rfl ?_
  refine xr_iconst (1 : Int32) F dX1_sum_7 rfl ?_
  refine xr_iconst (4 : Int32) F dX1_sum_8 rfl ?_
  refine xr_SI (y := yX1_inRange) (As := [.int p1, .int (1 : Int32), .int (4 : Int32)]) F (hno _) dX1_sum_9 (fX1_inRange_m (xFG F) p1 (1 : Int32) (4 : Int32)) (Or.inl rfl) q646 q121 (Or.inl q644) q645 (xroom hRm (Nat.le_of_ble_eq_true rfl) (Nat.le_of_ble_eq_true rfl)) ⟨by decide, by decide⟩ n_X1_inRange rfl (xcat (Nat.le_of_ble_eq_true rfl)) (fun v9 => ?_)
  refine xr_SV (y := yX1_checkThere) (As := [.int v9]) F (hno _) dX1_sum_12 (fX1_checkThere_m (xFG F) v9) (Or.inl rfl) q2618 q121 (Or.inl q2616) q2617 (xroom hRm (Nat.le_of_ble_eq_true rfl) (Nat.le_of_ble_eq_true rfl)) ⟨by decide, by decide⟩ n_X1_checkThere rfl (xcat (Nat.le_of_ble_eq_true rfl)) (fun _ => ?_)
  refine xr_iload_n 1 F dX1_sum_15 rfl ?_
  refine xr_SR (y := yX1_part) (As := [.int p1]) F (hno _) dX1_sum_16 (fX1_part_m (xFG F) p1) (Or.inl rfl) q2621 q121 (Or.inl q2619) q2620 (xroom hRm (Nat.le_of_ble_eq_true rfl) (Nat.le_of_ble_eq_true rfl)) ⟨by decide, by decide⟩ n_X1_part rfl (xcat (Nat.le_of_ble_eq_true rfl)) (fun v16 => ?_)
  refine xs_a [0] F dX1_sum_19 hnL rfl rfl (xk2 rfl (xrf_cat _) xk0) ?_
  refine xr_aload 0 (r := v16) F dX1_sum_21 rfl ?_
  refine xr_aload_n 1 (r := v2) F dX1_sum_23 rfl ?_
  refine xr_gR (r := v2) (ref := "ReserveLedger$Herd") F dX1_sum_24 (C := RX6) (T := TX6) (N := 8) rfl (by decide) (Or.inr ⟨_, q2053⟩) (Or.inl rfl) (fun v24 => ?_)
  refine xI.alt2 (Kp := ∀ (v27 : Int32), xI x xeJ 32 [(4, va_rf v16), (3, va_rf v2)] [.int v27] _) ?_ (fun hK => xrL_3 (r := v16) v24 F (hno _) dX1_sum_27 q2639 (xroom hRm (Nat.le_of_ble_eq_true rfl) (Nat.le_of_ble_eq_true rfl)) rfl (xcat (Nat.le_of_ble_eq_true rfl)) hK) (fun hK => (xI.alt2 hK (fun hK => xrL_4 (r := v16) v24 F (hno _) dX1_sum_27 q2639 (xroom hRm (Nat.le_of_ble_eq_true rfl) (Nat.le_of_ble_eq_true rfl)) rfl (xcat (Nat.le_of_ble_eq_true rfl)) hK) (fun hK => (xI.alt2 hK (fun hK => xrL_5 (r := v16) v24 F (hno _) dX1_sum_27 q2639 (xroom hRm (Nat.le_of_ble_eq_true rfl) (Nat.le_of_ble_eq_true rfl)) rfl (xcat (Nat.le_of_ble_eq_true rfl)) hK) (fun hK => (xI.alt2 hK (fun hK => xrL_6 (r := v16) v24 F (hno _) dX1_sum_27 q2639 (xroom hRm (Nat.le_of_ble_eq_true rfl) (Nat.le_of_ble_eq_true rfl)) rfl (xcat (Nat.le_of_ble_eq_true rfl)) hK) (fun hK => (xI.alt2 hK (fun hK => xrL_7 (r := v16) v24 F (hno _) dX1_sum_27 q2639 (xroom hRm (Nat.le_of_ble_eq_true rfl) (Nat.le_of_ble_eq_true rfl)) rfl (xcat (Nat.le_of_ble_eq_true rfl)) hK) (fun hK => (xI.alt2 hK (fun hK => xrL_8 (r := v16) v24 F (hno _) dX1_sum_27 q2639 (xroom hRm (Nat.le_of_ble_eq_true rfl) (Nat.le_of_ble_eq_true rfl)) rfl (xcat (Nat.le_of_ble_eq_true rfl)) hK) (fun hK => (xrL_9 (r := v16) v24 F (hno _) dX1_sum_27 q2639 (xroom hRm (Nat.le_of_ble_eq_true rfl) (Nat.le_of_ble_eq_true rfl)) rfl (xcat (Nat.le_of_ble_eq_true rfl)) hK))))))))))))
  intro v27
  refine xr_i2l F dX1_sum_32 ?_
  refine xr_letJ (fun x5_33 => ?_)
  refine xs_l [0, 1] F dX1_sum_33 hnL rfl rfl (xk2 rfl (xrf_cat _) (xk1 rfl rfl xk0)) (xk21 rfl (xk21 rfl xk20)) ?_
  refine xr_aload_n 2 (r := v2) F dX1_sum_35 rfl ?_
  refine xr_gR (r := v2) (ref := "ReserveLedger$Herd") F dX1_sum_36 (C := RX6) (T := TX6) (N := 8) rfl (by decide) (Or.inr ⟨_, q2037⟩) (Or.inl rfl) (fun v36 => ?_)
  refine xr_gR (r := v36) (ref := "ReserveLedger$Species") F dX1_sum_39 (C := RX7) (T := TX7) (N := 6) rfl (by decide) (Or.inr ⟨_, q1935⟩) (Or.inl rfl) (fun v39 => ?_)
  refine xr_VR (y := yJ29_values) (As := []) (r := v39) F (hno _) dX1_sum_42 (fun z => fJ29_values_m (xFG F) z) (Or.inl rfl) (ci := 16) (C := RJ29) (T := TJ29) rfl q1161 q1158 q1159 q1160 (xroom hRm (Nat.le_of_ble_eq_true rfl) (Nat.le_of_ble_eq_true rfl)) ⟨by decide, by decide⟩ n_J29_values rfl (xcat (Nat.le_of_ble_eq_true rfl)) (fun v42 => ?_)
  refine xI.alt2 (Kp := ∀ (v45 : Option Nat), xI x xeJ 50 [(5, .long x5_33), (4, va_rf v16), (3, va_rf v2)] [va_rf v45] _) ?_ (fun hK => xr_FR (x0 := ⟨"java/util/Collection", "iterator", "()Ljava/util/Iterator;"⟩) (y := yJ2_iterator) (As := []) (r := v42) F (hno _) dX1_sum_45 (fun z => fJ2_iterator_m (xFG F) z) rfl (ci := 2) (C := RJ2) (T := TJ2) rfl q693 q1173 q691 q1209 q1175 q1174 q692 q690 q1208 (xroom hRm (Nat.le_of_ble_eq_true rfl) (Nat.le_of_ble_eq_true rfl)) ⟨by decide, by decide⟩ n_J2_iterator rfl (xcat (Nat.le_of_ble_eq_true rfl)) hK) (fun hK => (xI.alt2 hK (fun hK => xr_FR (x0 := ⟨"java/util/Collection", "iterator", "()Ljava/util/Iterator;"⟩) (y := yJ18_iterator) (As := []) (r := v42) F (hno _) dX1_sum_45 (fun z => fJ18_iterator__J19_m (xFG F) z) rfl (ci := 6) (C := RJ19) (T := TJ19) rfl q720 q1173 q718 q1211 q1175 q1174 q719 q717 q1210 (xroom hRm (Nat.le_of_ble_eq_true rfl) (Nat.le_of_ble_eq_true rfl)) ⟨by decide, by decide⟩ n_J18_iterator rfl (xcat (Nat.le_of_ble_eq_true rfl)) hK) (fun hK => (xI.alt2 hK (fun hK => xr_FR (x0 := ⟨"java/util/Collection", "iterator", "()Ljava/util/Iterator;"⟩) (y := yJ40_iterator) (As := []) (r := v42) F (hno _) dX1_sum_45 (fun z => fJ40_iterator_m (xFG F) z) rfl (ci := 11) (C := RJ40) (T := TJ40) rfl q1280 q1173 q1278 q1276 q1175 q1174 q1279 q1277 q1275 (xroom hRm (Nat.le_of_ble_eq_true rfl) (Nat.le_of_ble_eq_true rfl)) ⟨by decide, by decide⟩ n_J40_iterator rfl (xcat (Nat.le_of_ble_eq_true rfl)) hK) (fun hK => (xI.alt2 hK (fun hK => xr_FR (x0 := ⟨"java/util/Collection", "iterator", "()Ljava/util/Iterator;"⟩) (y := yJ27_iterator) (As := []) (r := v42) F (hno _) dX1_sum_45 (fun z => fJ27_iterator_m (xFG F) z) rfl (ci := 23) (C := RJ27) (T := TJ27) rfl q1181 q1173 q1179 q1177 q1175 q1174 q1180 q1178 q1176 (xroom hRm (Nat.le_of_ble_eq_true rfl) (Nat.le_of_ble_eq_true rfl)) ⟨by decide, by decide⟩ n_J27_iterator rfl (xcat (Nat.le_of_ble_eq_true rfl)) hK) (fun hK => (xI.alt2 hK (fun hK => xr_FR (x0 := ⟨"java/util/Collection", "iterator", "()Ljava/util/Iterator;"⟩) (y := yJ37_iterator) (As := []) (r := v42) F (hno _) dX1_sum_45 (fun z => fJ37_iterator_m (xFG F) z) rfl (ci := 32) (C := RJ37) (T := TJ37) rfl q1248 q1173 q1246 q1244 q1175 q1174 q1247 q1245 q1243 (xroom hRm (Nat.le_of_ble_eq_true rfl) (Nat.le_of_ble_eq_true rfl)) ⟨by decide, by decide⟩ n_J37_iterator rfl (xcat (Nat.le_of_ble_eq_true rfl)) hK) (fun hK => (xr_FR (x0 := ⟨"java/util/Collection", "iterator", "()Ljava/util/Iterator;"⟩) (y := yJ45_iterator) (As := []) (r := v42) F (hno _) dX1_sum_45 (fun z => fJ45_iterator_m (xFG F) z) rfl (ci := 33) (C := RJ45) (T := TJ45) rfl q1217 q1173 q1215 q1213 q1175 q1174 q1216 q1214 q1212 (xroom hRm (Nat.le_of_ble_eq_true rfl) (Nat.le_of_ble_eq_true rfl)) ⟨by decide, by decide⟩ n_J45_iterator rfl (xcat (Nat.le_of_ble_eq_true rfl)) hK))))))))))
  intro v45
  refine xs_a [0, 1] F dX1_sum_50 hnL rfl rfl (xk1 rfl rfl (xk1 rfl rfl xk0)) ?_
  exact xI.sub [2, 1, 0] rfl (fX1_sum_p52_ok F hnL hRm hno hmn xFU v16 x5_33 v45)
theorem fX0_sum_m {l : Launch} {D : xD} {s0 : State} {b0 : Nat} {Γ : Nat → Option Nat} (G : xG l D s0 b0 Γ) (p0 : Option Nat) (p1 : Int32) (p2 : Int32) (p3 : Option Nat) : xMeth l D s0 Γ yX0_sum (Cond.codeWith yX0_sum cX0_sum 5 (some .int) [(0, 9, 12, 25), (0, 9, 16, 19)]) (9) (3149) [va_rf p0, .int p1, .int p2, va_rf p3] xeI (fX0_sum p0 p1 p2 p3) := by
  refine xMeth.of (lv0 := [(0, va_rf p0), (1, .int p1), (2, .int p2), (3, va_rf p3)]) G (by decide +kernel) (Or.inr ⟨_, rfl⟩) (by simp [lg_sl, xrf_cat, xct_i, xct_l, xct_d, xct_r]) (by simp [lv_args, xrf_cat, xct_i, xct_l, xct_d, xct_r, xrf_some]) (fun x F hnL hRm hmn ht e1 e2 e3 e4 => ?_)
  have htb : x.2.2.2.2.2.2.2.2.2.1.exceptionTable.toList = tableOf [(0, 9, 12, 25), (0, 9, 16, 19)] := ht.2 _ rfl
  unfold fX0_sum
  refine xr_aload_n 3 (r := p3) F dX0_sum_0 rfl ?_
  refine xr_iconst (0 : Int32) F dX0_sum_1 rfl ?_
  refine xr_aload_n 0 (r := p0) F dX0_sum_2 rfl ?_
  refine xr_iload_n 1 F dX0_sum_3 rfl ?_
  refine xr_iload_n 2 F dX0_sum_4 rfl ?_
  refine xr_VJT (y := yX1_sum) (As := [.int p1, .int p2]) (r := p0) F dX0_sum_5 (fun z => fX1_sum_m (xFG F) z p1 p2) (Or.inl rfl) (ci := 0) (C := RX1) (T := TX1) rfl q2753 q2750 q2751 q2752 (xroom hRm (Nat.le_of_ble_eq_true rfl) (Nat.le_of_ble_eq_true rfl)) ⟨by decide, by decide⟩ n_X1_sum rfl (xcat (Nat.le_of_ble_eq_true rfl)) (fun v5 => ?_) (fun q => ?_)
  · refine xr_last (r := p3) F dX0_sum_8 ?_
    refine xr_goto 20 F dX0_sum_9 rfl ?_
    refine xr_iconst (0 : Int32) F dX0_sum_20 rfl ?_
    exact xr_iret F dX0_sum_21
  · refine xT.sel2 ?_ ?_
    · refine xT.catch F htb (tableOf []) ⟨0, 9, 12, 25⟩ (tableOf [(0, 9, 16, 19)]) rfl rfl xps0 rfl (Or.inr ⟨by decide, _, q2481, q739⟩) ?_
      refine xs_a [] F dX0_sum_12 hnL rfl rfl xk0 ?_
      refine xr_iconst (1 : Int32) F dX0_sum_14 rfl ?_
      exact xr_iret F dX0_sum_15
    refine xT.catch F htb (tableOf [(0, 9, 12, 25)]) ⟨0, 9, 16, 19⟩ (tableOf []) rfl rfl (xps1 (Or.inr ⟨by decide, _, 0, q2481, rfl⟩) xps0) rfl (Or.inr ⟨by decide, _, q2471, q924⟩) ?_
    refine xs_a [] F dX0_sum_16 hnL rfl rfl xk0 ?_
    refine xr_iconst (2 : Int32) F dX0_sum_18 rfl ?_
    exact xr_iret F dX0_sum_19
theorem fJ41_hasNext_m {l : Launch} {D : xD} {s0 : State} {b0 : Nat} {Γ : Nat → Option Nat} (G : xG l D s0 b0 Γ) (a0 : Nat) : xMeth l D s0 Γ yJ41_hasNext (Cond.code yJ41_hasNext cJ41_hasNext 1 (some .boolean)) (1) (12) [.ref a0] xeI (fJ41_hasNext a0) := by
  refine xMeth.of (lv0 := [(0, va_rf (some a0))]) G (by decide +kernel) (Or.inl rfl) (Nat.le_of_ble_eq_true rfl) rfl (fun x F hnL hRm hmn ht e1 e2 e3 e4 => ?_)
  have hno : ∀ pc, xNo x pc := fun pc z hz => by rw [ht.1 rfl] at hz; cases hz
  unfold fJ41_hasNext
  refine xr_aload_n 0 (r := (some a0)) F dJ41_hasNext_0 rfl ?_
  refine xr_gI (r := (some a0)) (ref := "java/util/ArrayDeque$DeqIterator") F dJ41_hasNext_1 (C := RJ41) (T := TJ41) (N := 4) rfl (by decide) (Or.inl q1196) (Or.inl rfl) (fun v1 => ?_)
  refine xr_if_le 11 F dJ41_hasNext_4 rfl ?_ ?_
  · refine xr_iconst (0 : Int32) F dJ41_hasNext_11 rfl ?_
    exact xr_zret F dJ41_hasNext_12 rfl
  · refine xr_iconst (1 : Int32) F dJ41_hasNext_7 rfl ?_
    refine xr_goto 12 F dJ41_hasNext_8 rfl ?_
    exact xr_zret F dJ41_hasNext_12 rfl
theorem fJ27_nonNullElementAt_m {l : Launch} {D : xD} {s0 : State} {b0 : Nat} {Γ : Nat → Option Nat} (G : xG l D s0 b0 Γ) (p0 : Option Nat) (p1 : Int32) : xMeth l D s0 Γ yJ27_nonNullElementAt (Cond.code yJ27_nonNullElementAt cJ27_nonNullElementAt 3 (some (.object "java/lang/Object"))) (1) (12) [va_rf p0, .int p1] xeR (fJ27_nonNullElementAt p0 p1) := by
  refine xMeth.of (lv0 := [(0, va_rf p0), (1, .int p1)]) G (by decide +kernel) (Or.inl rfl) (by simp [lg_sl, xrf_cat, xct_i, xct_l, xct_d, xct_r]) (by simp [lv_args, xrf_cat, xct_i, xct_l, xct_d, xct_r, xrf_some]) (fun x F hnL hRm hmn ht e1 e2 e3 e4 => ?_)
  have hno : ∀ pc, xNo x pc := fun pc z hz => by rw [ht.1 rfl] at hz; cases hz
  unfold fJ27_nonNullElementAt
  refine xr_aload_n 0 (r := p0) F dJ27_nonNullElementAt_0 rfl ?_
  refine xr_iload_n 1 F dJ27_nonNullElementAt_1 rfl ?_
  refine xr_aald (r := p0) F dJ27_nonNullElementAt_2 (fun v2 => ?_)
  refine xs_a_n [] F dJ27_nonNullElementAt_3 hnL rfl rfl xk0 ?_
  refine xr_aload_n 0 (r := v2) F dJ27_nonNullElementAt_4 rfl ?_
  refine xr_ifnonnull 16 F dJ27_nonNullElementAt_5 rfl ?_ ?_
  · exact xI.stuck
  · refine xr_aload_n 0 (r := v2) F dJ27_nonNullElementAt_16 rfl ?_
    exact xr_aret (v := v2) F dJ27_nonNullElementAt_17 (Or.inl ⟨_, rfl⟩)
theorem fJ27_inc_m {l : Launch} {D : xD} {s0 : State} {b0 : Nat} {Γ : Nat → Option Nat} (G : xG l D s0 b0 Γ) (p0 : Int32) (p1 : Int32) : xMeth l D s0 Γ yJ27_inc (Cond.code yJ27_inc cJ27_inc 2 (some .int)) (1) (12) [.int p0, .int p1] xeI (fJ27_inc p0 p1) := by
  refine xMeth.of (lv0 := [(0, .int p0), (1, .int p1)]) G (by decide +kernel) (Or.inl rfl) (Nat.le_of_ble_eq_true rfl) rfl (fun x F hnL hRm hmn ht e1 e2 e3 e4 => ?_)
  have hno : ∀ pc, xNo x pc := fun pc z hz => by rw [ht.1 rfl] at hz; cases hz
  unfold fJ27_inc
  refine xs_inc [0, 1] F dJ27_inc_0 rfl hnL rfl rfl (xk1 rfl rfl xk0) (fun x0_0 => ?_)
  refine xr_iload_n 0 F dJ27_inc_3 rfl ?_
  refine xr_iload_n 1 F dJ27_inc_4 rfl ?_
  refine xr_icmp_lt 10 F dJ27_inc_5 rfl ?_ ?_
  · refine xr_iload_n 0 F dJ27_inc_10 rfl ?_
    exact xr_iret F dJ27_inc_11
  · refine xr_iconst (0 : Int32) F dJ27_inc_8 rfl ?_
    refine xr_letI (fun x0_9 => ?_)
    refine xs_i_n [] F dJ27_inc_9 hnL rfl rfl xk0 ?_
    refine xr_iload_n 0 F dJ27_inc_10 rfl ?_
    exact xr_iret F dJ27_inc_11
theorem fJ41_next_m {l : Launch} {D : xD} {s0 : State} {b0 : Nat} {Γ : Nat → Option Nat} (G : xG l D s0 b0 Γ) (a0 : Nat) : xMeth l D s0 Γ yJ41_next (Cond.code yJ41_next cJ41_next 3 (some (.object "java/lang/Object"))) (2) (34) [.ref a0] xeR (fJ41_next a0) := by
  refine xMeth.of (lv0 := [(0, va_rf (some a0))]) G (by decide +kernel) (Or.inl rfl) (Nat.le_of_ble_eq_true rfl) rfl (fun x F hnL hRm hmn ht e1 e2 e3 e4 => ?_)
  have hno : ∀ pc, xNo x pc := fun pc z hz => by rw [ht.1 rfl] at hz; cases hz
  unfold fJ41_next
  refine xr_aload_n 0 (r := (some a0)) F dJ41_next_0 rfl ?_
  refine xr_gI (r := (some a0)) (ref := "java/util/ArrayDeque$DeqIterator") F dJ41_next_1 (C := RJ41) (T := TJ41) (N := 4) rfl (by decide) (Or.inl q1196) (Or.inl rfl) (fun v1 => ?_)
  refine xr_if_gt 15 F dJ41_next_4 rfl ?_ ?_
  · refine xr_aload_n 0 (r := (some a0)) F dJ41_next_15 rfl ?_
    refine xr_gR (r := (some a0)) (ref := "java/util/ArrayDeque$DeqIterator") F dJ41_next_16 (C := RJ41) (T := TJ41) (N := 4) rfl (by decide) (Or.inl q1198) (Or.inl rfl) (fun v16 => ?_)
    refine xr_gR (r := v16) (ref := "java/util/ArrayDeque") F dJ41_next_19 (C := RJ27) (T := TJ27) (N := 3) rfl (by decide) (Or.inl q2001) (Or.inl rfl) (fun v19 => ?_)
    refine xs_a_n [0] F dJ41_next_22 hnL rfl rfl (xk2 rfl (xrf_cat _) xk0) ?_
    refine xr_aload_n 0 (r := v19) F dJ41_next_23 rfl ?_
    refine xr_aload_n 1 (r := (some a0)) F dJ41_next_24 rfl ?_
    refine xr_gI (r := (some a0)) (ref := "java/util/ArrayDeque$DeqIterator") F dJ41_next_25 (C := RJ41) (T := TJ41) (N := 4) rfl (by decide) (Or.inl q1195) (Or.inl rfl) (fun v25 => ?_)
    refine xr_SR (y := yJ27_nonNullElementAt) (As := [va_rf v19, .int v25]) F (hno _) dJ41_next_28 (fJ27_nonNullElementAt_m (xFG F) v19 v25) (Or.inl rfl) q1067 q155 (Or.inl q1065) q1066 (xroom hRm (Nat.le_of_ble_eq_true rfl) (Nat.le_of_ble_eq_true rfl)) ⟨by decide, by decide⟩ n_J27_nonNullElementAt rfl (xcat (Nat.le_of_ble_eq_true rfl)) (fun v28 => ?_)
    refine xs_a_n [0, 1] F dJ41_next_31 hnL rfl rfl (xk2 rfl (xrf_cat _) (xk1 rfl rfl xk0)) ?_
    refine xr_aload_n 2 (r := (some a0)) F dJ41_next_32 rfl ?_
    refine xr_aload_n 2 (r := (some a0)) F dJ41_next_33 rfl ?_
    refine xr_aload_n 2 (r := (some a0)) F dJ41_next_34 rfl ?_
    refine xr_gI (r := (some a0)) (ref := "java/util/ArrayDeque$DeqIterator") F dJ41_next_35 (C := RJ41) (T := TJ41) (N := 4) rfl (by decide) (Or.inl q1195) (Or.inl rfl) (fun v35 => ?_)
    refine xr_dup_x1 F dJ41_next_38 rfl (xrf_cat _) ?_
    refine xr_put (r := (some a0)) (ref := "java/util/ArrayDeque$DeqIterator") F dJ41_next_39 xk_12 (by decide) (Or.inl q1197) (Or.inl rfl) (Or.inl rfl) ⟨rfl, rfl⟩ ?_
    refine xr_aload_n 1 (r := v19) F dJ41_next_42 rfl ?_
    refine xr_len (r := v19) F dJ41_next_43 (fun v43 => ?_)
    refine xr_SI (y := yJ27_inc) (As := [.int v35, .int v43]) F (hno _) dJ41_next_44 (fJ27_inc_m (xFG F) v35 v43) (Or.inl rfl) q1070 q155 (Or.inl q1068) q1069 (xroom hRm (Nat.le_of_ble_eq_true rfl) (Nat.le_of_ble_eq_true rfl)) ⟨by decide, by decide⟩ n_J27_inc rfl (xcat (Nat.le_of_ble_eq_true rfl)) (fun v44 => ?_)
    refine xr_put (r := (some a0)) (ref := "java/util/ArrayDeque$DeqIterator") F dJ41_next_47 xk_12 (by decide) (Or.inl q1195) (Or.inl rfl) (Or.inl rfl) ⟨rfl, rfl⟩ ?_
    refine xr_aload_n 2 (r := (some a0)) F dJ41_next_50 rfl ?_
    refine xr_dup F dJ41_next_51 (xrf_cat _) ?_
    refine xr_gI (r := (some a0)) (ref := "java/util/ArrayDeque$DeqIterator") F dJ41_next_52 (C := RJ41) (T := TJ41) (N := 4) rfl (by decide) (Or.inl q1196) (Or.inl rfl) (fun v52 => ?_)
    refine xr_iconst (1 : Int32) F dJ41_next_55 rfl ?_
    refine xr_isub F dJ41_next_56 ?_
    refine xr_put (r := (some a0)) (ref := "java/util/ArrayDeque$DeqIterator") F dJ41_next_57 xk_12 (by decide) (Or.inl q1196) (Or.inl rfl) (Or.inl rfl) ⟨rfl, rfl⟩ ?_
    refine xr_aload_n 0 (r := v28) F dJ41_next_60 rfl ?_
    exact xr_aret (v := v28) F dJ41_next_61 (Or.inl ⟨_, rfl⟩)
  · exact xI.stuck
theorem fX1_sightingAt_p15_ok {x : xC} (F : xF x RX1 cX1_sightingAt (some (.object "ReserveLedger$Sighting"))) (hnL : xnL x = 6) (hRm : ∃ dc ds, x.2.2.2.1 = { frames := 8, cells := dc, slots := ds, locals := 131 }) (hno : ∀ pc, xNo x pc) (hmn : xmn x = "sightingAt" ∧ xmy x yX1_sightingAt) : ∀ (n : Nat) (l3 : Int32) (l4 : Option Nat), xI x xeR 15 [(3, .int l3), (4, va_rf l4)] [] (fX1_sightingAt_p15 n l3 l4) := by
  intro n
  induction n with
  | zero => intro l3 l4; exact xI.stuck
  | succ n ih =>
    intro l3 l4
    unfold fX1_sightingAt_p15
    refine xr_aload 1 (r := l4) F dX1_sightingAt_15 rfl ?_
    refine xr_FI (x0 := ⟨"java/util/Iterator", "hasNext", "()Z"⟩) (y := yJ41_hasNext) (As := []) (r := l4) F (hno _) dX1_sightingAt_17 (fun z => fJ41_hasNext_m (xFG F) z) rfl (ci := 12) (C := RJ41) (T := TJ41) rfl q847 q824 q845 q843 q826 q825 q846 q844 q842 (xroom hRm (Nat.le_of_ble_eq_true rfl) (Nat.le_of_ble_eq_true rfl)) ⟨by decide, by decide⟩ n_J41_hasNext rfl (xcat (Nat.le_of_ble_eq_true rfl)) (fun v17 => ?_)
    refine xr_if_eq 50 F dX1_sightingAt_22 rfl ?_ ?_
    · refine xr_null F dX1_sightingAt_50 ?_
      exact xr_aret (v := none) F dX1_sightingAt_51 (Or.inl ⟨_, rfl⟩)
    · refine xr_aload 1 (r := l4) F dX1_sightingAt_25 rfl ?_
      refine xr_FR (x0 := ⟨"java/util/Iterator", "next", "()Ljava/lang/Object;"⟩) (y := yJ41_next) (As := []) (r := l4) F (hno _) dX1_sightingAt_27 (fun z => fJ41_next_m (xFG F) z) rfl (ci := 12) (C := RJ41) (T := TJ41) rfl q1053 q883 q1051 q1049 q885 q884 q1052 q1050 q842 (xroom hRm (Nat.le_of_ble_eq_true rfl) (Nat.le_of_ble_eq_true rfl)) ⟨by decide, by decide⟩ n_J41_next rfl (xcat (Nat.le_of_ble_eq_true rfl)) (fun v27 => ?_)
      refine xr_castE (ci := 37) (r := v27) F dX1_sightingAt_32 q2766 rfl ?_
      refine xs_a [0, 1] F dX1_sightingAt_35 hnL rfl rfl (xk1 rfl rfl (xk2 rfl (xrf_cat _) xk0)) ?_
      refine xr_iload_n 1 F dX1_sightingAt_37 rfl ?_
      refine xr_if_ne 44 F dX1_sightingAt_38 rfl ?_ ?_
      · refine xr_aload 0 (r := v27) F dX1_sightingAt_41 rfl ?_
        exact xr_aret (v := v27) F dX1_sightingAt_43 (Or.inl ⟨_, rfl⟩)
      · refine xs_inc [1, 2] F dX1_sightingAt_44 rfl hnL rfl rfl (xk1 rfl rfl xk0) (fun x3_44 => ?_)
        refine xr_goto 15 F dX1_sightingAt_47 rfl ?_
        exact xI.sub [0, 1] rfl (ih x3_44 l4)
theorem fX1_sightingAt_m {l : Launch} {D : xD} {s0 : State} {b0 : Nat} {Γ : Nat → Option Nat} (G : xG l D s0 b0 Γ) (a0 : Nat) (p0 : Int32) (p1 : Int32) : xMeth l D s0 Γ yX1_sightingAt (Cond.code yX1_sightingAt cX1_sightingAt 6 (some (.object "ReserveLedger$Sighting"))) (8) (131) [.ref a0, .int p0, .int p1] xeR (fX1_sightingAt a0 p0 p1) := by
  refine xMeth.of (lv0 := [(0, va_rf (some a0)), (1, .int p0), (2, .int p1)]) G (by decide +kernel) (Or.inl rfl) (Nat.le_of_ble_eq_true rfl) rfl (fun x F hnL hRm hmn ht e1 e2 e3 e4 => ?_)
  have hno : ∀ pc, xNo x pc := fun pc z hz => by rw [ht.1 rfl] at hz; cases hz
  unfold fX1_sightingAt
  refine xr_iload_n 2 F dX1_sightingAt_0 rfl ?_
  refine xs_i_n [0, 1] F dX1_sightingAt_1 hnL rfl rfl (xk1 rfl rfl (xk1 rfl rfl xk0)) ?_
  refine xr_aload_n 1 (r := (some a0)) F dX1_sightingAt_2 rfl ?_
  refine xr_iload_n 2 F dX1_sightingAt_3 rfl ?_
  refine xr_VR (y := yX1_herd) (As := [.int p0]) (r := (some a0)) F (hno _) dX1_sightingAt_4 (fun z => fX1_herd_m (xFG F) z p0) (Or.inl rfl) (ci := 0) (C := RX1) (T := TX1) rfl q2504 q2501 q2503 qs34 (xroom hRm (Nat.le_of_ble_eq_true rfl) (Nat.le_of_ble_eq_true rfl)) ⟨by decide, by decide⟩ n_X1_herd rfl (xcat (Nat.le_of_ble_eq_true rfl)) (fun v4 => ?_)
  refine xr_gR (r := v4) (ref := "ReserveLedger$Herd") F dX1_sightingAt_7 (C := RX6) (T := TX6) (N := 8) rfl (by decide) (Or.inr ⟨_, q2055⟩) (Or.inl rfl) (fun v7 => ?_)
  refine xr_VR (y := yJ27_iterator) (As := []) (r := v7) F (hno _) dX1_sightingAt_10 (fun z => fJ27_iterator_m (xFG F) z) (Or.inl rfl) (ci := 23) (C := RJ27) (T := TJ27) rfl q1181 q2765 q1179 q3999 (xroom hRm (Nat.le_of_ble_eq_true rfl) (Nat.le_of_ble_eq_true rfl)) ⟨by decide, by decide⟩ n_J27_iterator rfl (xcat (Nat.le_of_ble_eq_true rfl)) (fun v10 => ?_)
  refine xs_a [0] F dX1_sightingAt_13 hnL rfl rfl (xk2 rfl rfl xk0) ?_
  exact xI.sub [1, 0] rfl (fX1_sightingAt_p15_ok F hnL hRm hno hmn xFU p1 v10)
theorem fX17_part_m {l : Launch} {D : xD} {s0 : State} {b0 : Nat} {Γ : Nat → Option Nat} (G : xG l D s0 b0 Γ) (a0 : Nat) (p0 : Int32) : xMeth l D s0 Γ yX17_part (Cond.code yX17_part cX17_part 2 (some .int)) (1) (12) [.ref a0, .int p0] xeI (fX17_part a0 p0) := by
  refine xMeth.of (lv0 := [(0, va_rf (some a0)), (1, .int p0)]) G (by decide +kernel) (Or.inl rfl) (Nat.le_of_ble_eq_true rfl) rfl (fun x F hnL hRm hmn ht e1 e2 e3 e4 => ?_)
  have hno : ∀ pc, xNo x pc := fun pc z hz => by rw [ht.1 rfl] at hz; cases hz
  unfold fX17_part
  refine xr_iload_n 1 F dX17_part_0 rfl ?_
  refine xr_if_ne 11 F dX17_part_1 rfl ?_ ?_
  · refine xr_aload_n 0 (r := (some a0)) F dX17_part_4 rfl ?_
    refine xr_gI (r := (some a0)) (ref := "ReserveLedger$Sighting") F dX17_part_5 (C := RX17) (T := TX17) (N := 4) rfl (by decide) (Or.inl q3254) (Or.inl rfl) (fun v5 => ?_)
    refine xr_goto 39 F dX17_part_8 rfl ?_
    exact xr_iret F dX17_part_39
  · refine xr_iload_n 1 F dX17_part_11 rfl ?_
    refine xr_iconst (1 : Int32) F dX17_part_12 rfl ?_
    refine xr_icmp_ne 23 F dX17_part_13 rfl ?_ ?_
    · refine xr_aload_n 0 (r := (some a0)) F dX17_part_16 rfl ?_
      refine xr_gI (r := (some a0)) (ref := "ReserveLedger$Sighting") F dX17_part_17 (C := RX17) (T := TX17) (N := 4) rfl (by decide) (Or.inl q3255) (Or.inl rfl) (fun v17 => ?_)
      refine xr_goto 39 F dX17_part_20 rfl ?_
      exact xr_iret F dX17_part_39
    · refine xr_iload_n 1 F dX17_part_23 rfl ?_
      refine xr_iconst (2 : Int32) F dX17_part_24 rfl ?_
      refine xr_icmp_ne 35 F dX17_part_25 rfl ?_ ?_
      · refine xr_aload_n 0 (r := (some a0)) F dX17_part_28 rfl ?_
        refine xr_gI (r := (some a0)) (ref := "ReserveLedger$Sighting") F dX17_part_29 (C := RX17) (T := TX17) (N := 4) rfl (by decide) (Or.inl q3257) (Or.inl rfl) (fun v29 => ?_)
        refine xr_goto 39 F dX17_part_32 rfl ?_
        exact xr_iret F dX17_part_39
      · refine xr_aload_n 0 (r := (some a0)) F dX17_part_35 rfl ?_
        refine xr_gI (r := (some a0)) (ref := "ReserveLedger$Sighting") F dX17_part_36 (C := RX17) (T := TX17) (N := 4) rfl (by decide) (Or.inl q3259) (Or.inl rfl) (fun v36 => ?_)
        exact xr_iret F dX17_part_39
theorem fX1_sighting_m {l : Launch} {D : xD} {s0 : State} {b0 : Nat} {Γ : Nat → Option Nat} (G : xG l D s0 b0 Γ) (a0 : Nat) (p0 : Int32) (p1 : Int32) (p2 : Int32) : xMeth l D s0 Γ yX1_sighting (Cond.code yX1_sighting cX1_sighting 5 (some .int)) (9) (156) [.ref a0, .int p0, .int p1, .int p2] xeI (fX1_sighting a0 p0 p1 p2) := by
  refine xMeth.of (lv0 := [(0, va_rf (some a0)), (1, .int p0), (2, .int p1), (3, .int p2)]) G (by decide +kernel) (Or.inl rfl) (Nat.le_of_ble_eq_true rfl) rfl (fun x F hnL hRm hmn ht e1 e2 e3 e4 => ?_)
  have hno : ∀ pc, xNo x pc := fun pc z hz => by rw [ht.1 rfl] at hz; cases hz
  unfold fX1_sighting
  refine xr_aload_n 0 (r := (some a0)) F dX1_sighting_0 rfl ?_
  refine xr_iload_n 1 F dX1_sighting_1 rfl ?_
  refine xr_iload_n 2 F dX1_sighting_2 rfl ?_
  refine xr_VR (y := yX1_sightingAt) (As := [.int p0, .int p1]) (r := (some a0)) F (hno _) dX1_sighting_3 (fun z => fX1_sightingAt_m (xFG F) z p0 p1) (Or.inl rfl) (ci := 0) (C := RX1) (T := TX1) rfl q2764 q2761 q2763 qs37 (xroom hRm (Nat.le_of_ble_eq_true rfl) (Nat.le_of_ble_eq_true rfl)) ⟨by decide, by decide⟩ n_X1_sightingAt rfl (xcat (Nat.le_of_ble_eq_true rfl)) (fun v3 => ?_)
  refine xs_a [3] F dX1_sighting_6 hnL rfl rfl (xk2 rfl rfl xk0) ?_
  refine xr_iload_n 1 F dX1_sighting_8 rfl ?_
  refine xr_iconst (0 : Int32) F dX1_sighting_9 rfl ?_
  refine xr_iconst (3 : Int32) F dX1_sighting_10 rfl ?_
  refine xr_SI (y := yX1_inRange) (As := [.int p2, .int (0 : Int32), .int (3 : Int32)]) F (hno _) dX1_sighting_11 (fX1_inRange_m (xFG F) p2 (0 : Int32) (3 : Int32)) (Or.inl rfl) q646 q121 (Or.inl q644) q645 (xroom hRm (Nat.le_of_ble_eq_true rfl) (Nat.le_of_ble_eq_true rfl)) ⟨by decide, by decide⟩ n_X1_inRange rfl (xcat (Nat.le_of_ble_eq_true rfl)) (fun v11 => ?_)
  refine xr_SV (y := yX1_checkThere) (As := [.int v11]) F (hno _) dX1_sighting_14 (fX1_checkThere_m (xFG F) v11) (Or.inl rfl) q2618 q121 (Or.inl q2616) q2617 (xroom hRm (Nat.le_of_ble_eq_true rfl) (Nat.le_of_ble_eq_true rfl)) ⟨by decide, by decide⟩ n_X1_checkThere rfl (xcat (Nat.le_of_ble_eq_true rfl)) (fun _ => ?_)
  refine xr_aload 0 (r := v3) F dX1_sighting_17 rfl ?_
  refine xr_ifnonnull 26 F dX1_sighting_19 rfl ?_ ?_
  · refine xr_iconst (-1 : Int32) F dX1_sighting_22 rfl ?_
    refine xr_goto 32 F dX1_sighting_23 rfl ?_
    exact xr_iret F dX1_sighting_32
  · refine xr_aload 0 (r := v3) F dX1_sighting_26 rfl ?_
    refine xr_iload_n 1 F dX1_sighting_28 rfl ?_
    refine xr_VI (y := yX17_part) (As := [.int p2]) (r := v3) F (hno _) dX1_sighting_29 (fun z => fX17_part_m (xFG F) z p2) (Or.inl rfl) (ci := 37) (C := RX17) (T := TX17) rfl q2770 q2767 q2768 q2769 (xroom hRm (Nat.le_of_ble_eq_true rfl) (Nat.le_of_ble_eq_true rfl)) ⟨by decide, by decide⟩ n_X17_part rfl (xcat (Nat.le_of_ble_eq_true rfl)) (fun v29 => ?_)
    exact xr_iret F dX1_sighting_32
theorem fX0_sighting_m {l : Launch} {D : xD} {s0 : State} {b0 : Nat} {Γ : Nat → Option Nat} (G : xG l D s0 b0 Γ) (p0 : Option Nat) (p1 : Int32) (p2 : Int32) (p3 : Int32) (p4 : Option Nat) : xMeth l D s0 Γ yX0_sighting (Cond.codeWith yX0_sighting cX0_sighting 6 (some .int) [(0, 12, 15, 25), (0, 12, 19, 19)]) (10) (180) [va_rf p0, .int p1, .int p2, .int p3, va_rf p4] xeI (fX0_sighting p0 p1 p2 p3 p4) := by
  refine xMeth.of (lv0 := [(0, va_rf p0), (1, .int p1), (2, .int p2), (3, .int p3), (4, va_rf p4)]) G (by decide +kernel) (Or.inr ⟨_, rfl⟩) (by simp [lg_sl, xrf_cat, xct_i, xct_l, xct_d, xct_r]) (by simp [lv_args, xrf_cat, xct_i, xct_l, xct_d, xct_r, xrf_some]) (fun x F hnL hRm hmn ht e1 e2 e3 e4 => ?_)
  have htb : x.2.2.2.2.2.2.2.2.2.1.exceptionTable.toList = tableOf [(0, 12, 15, 25), (0, 12, 19, 19)] := ht.2 _ rfl
  unfold fX0_sighting
  refine xr_aload 4 (r := p4) F dX0_sighting_0 rfl ?_
  refine xr_iconst (0 : Int32) F dX0_sighting_2 rfl ?_
  refine xr_aload_n 0 (r := p0) F dX0_sighting_3 rfl ?_
  refine xr_iload_n 1 F dX0_sighting_4 rfl ?_
  refine xr_iload_n 2 F dX0_sighting_5 rfl ?_
  refine xr_iload_n 3 F dX0_sighting_6 rfl ?_
  refine xr_VIT (y := yX1_sighting) (As := [.int p1, .int p2, .int p3]) (r := p0) F dX0_sighting_7 (fun z => fX1_sighting_m (xFG F) z p1 p2 p3) (Or.inl rfl) (ci := 0) (C := RX1) (T := TX1) rfl q2760 q2757 q2758 q2759 (xroom hRm (Nat.le_of_ble_eq_true rfl) (Nat.le_of_ble_eq_true rfl)) ⟨by decide, by decide⟩ n_X1_sighting rfl (xcat (Nat.le_of_ble_eq_true rfl)) (fun v7 => ?_) (fun q => ?_)
  · refine xr_i2l F dX0_sighting_10 ?_
    refine xr_last (r := p4) F dX0_sighting_11 ?_
    refine xr_goto 23 F dX0_sighting_12 rfl ?_
    refine xr_iconst (0 : Int32) F dX0_sighting_23 rfl ?_
    exact xr_iret F dX0_sighting_24
  · refine xT.sel2 ?_ ?_
    · refine xT.catch F htb (tableOf []) ⟨0, 12, 15, 25⟩ (tableOf [(0, 12, 19, 19)]) rfl rfl xps0 rfl (Or.inr ⟨by decide, _, q2481, q739⟩) ?_
      refine xs_a [] F dX0_sighting_15 hnL rfl rfl xk0 ?_
      refine xr_iconst (1 : Int32) F dX0_sighting_17 rfl ?_
      exact xr_iret F dX0_sighting_18
    refine xT.catch F htb (tableOf [(0, 12, 15, 25)]) ⟨0, 12, 19, 19⟩ (tableOf []) rfl rfl (xps1 (Or.inr ⟨by decide, _, 0, q2481, rfl⟩) xps0) rfl (Or.inr ⟨by decide, _, q2471, q924⟩) ?_
    refine xs_a [] F dX0_sighting_19 hnL rfl rfl xk0 ?_
    refine xr_iconst (2 : Int32) F dX0_sighting_21 rfl ?_
    exact xr_iret F dX0_sighting_22
theorem fX17_estimate_m {l : Launch} {D : xD} {s0 : State} {b0 : Nat} {Γ : Nat → Option Nat} (G : xG l D s0 b0 Γ) (a0 : Nat) : xMeth l D s0 Γ yX17_estimate (Cond.code yX17_estimate cX17_estimate 1 (some .long)) (1) (12) [.ref a0] xeJ (fX17_estimate a0) := by
  refine xMeth.of (lv0 := [(0, va_rf (some a0))]) G (by decide +kernel) (Or.inl rfl) (Nat.le_of_ble_eq_true rfl) rfl (fun x F hnL hRm hmn ht e1 e2 e3 e4 => ?_)
  have hno : ∀ pc, xNo x pc := fun pc z hz => by rw [ht.1 rfl] at hz; cases hz
  unfold fX17_estimate
  refine xr_aload_n 0 (r := (some a0)) F dX17_estimate_0 rfl ?_
  refine xr_gI (r := (some a0)) (ref := "ReserveLedger$Sighting") F dX17_estimate_1 (C := RX17) (T := TX17) (N := 4) rfl (by decide) (Or.inl q3255) (Or.inl rfl) (fun v1 => ?_)
  refine xr_i2l F dX17_estimate_4 ?_
  refine xr_lconst 1 F dX17_estimate_5 rfl ?_
  refine xr_ladd F dX17_estimate_6 ?_
  refine xr_aload_n 0 (r := (some a0)) F dX17_estimate_7 rfl ?_
  refine xr_gI (r := (some a0)) (ref := "ReserveLedger$Sighting") F dX17_estimate_8 (C := RX17) (T := TX17) (N := 4) rfl (by decide) (Or.inl q3257) (Or.inl rfl) (fun v8 => ?_)
  refine xr_i2l F dX17_estimate_11 ?_
  refine xr_lconst 1 F dX17_estimate_12 rfl ?_
  refine xr_ladd F dX17_estimate_13 ?_
  refine xr_lmul F dX17_estimate_14 ?_
  refine xr_aload_n 0 (r := (some a0)) F dX17_estimate_15 rfl ?_
  refine xr_gI (r := (some a0)) (ref := "ReserveLedger$Sighting") F dX17_estimate_16 (C := RX17) (T := TX17) (N := 4) rfl (by decide) (Or.inl q3259) (Or.inl rfl) (fun v16 => ?_)
  refine xr_i2l F dX17_estimate_19 ?_
  refine xr_lconst 1 F dX17_estimate_20 rfl ?_
  refine xr_ladd F dX17_estimate_21 ?_
  refine xr_ldiv F dX17_estimate_22 ?_
  refine xr_lconst 1 F dX17_estimate_23 rfl ?_
  refine xr_lsub F dX17_estimate_24 ?_
  exact xr_lret F dX17_estimate_25
theorem fX1_estimate_m {l : Launch} {D : xD} {s0 : State} {b0 : Nat} {Γ : Nat → Option Nat} (G : xG l D s0 b0 Γ) (a0 : Nat) (p0 : Int32) (p1 : Int32) : xMeth l D s0 Γ yX1_estimate (Cond.code yX1_estimate cX1_estimate 4 (some .long)) (9) (156) [.ref a0, .int p0, .int p1] xeJ (fX1_estimate a0 p0 p1) := by
  refine xMeth.of (lv0 := [(0, va_rf (some a0)), (1, .int p0), (2, .int p1)]) G (by decide +kernel) (Or.inl rfl) (Nat.le_of_ble_eq_true rfl) rfl (fun x F hnL hRm hmn ht e1 e2 e3 e4 => ?_)
  have hno : ∀ pc, xNo x pc := fun pc z hz => by rw [ht.1 rfl] at hz; cases hz
  unfold fX1_estimate
  refine xr_aload_n 0 (r := (some a0)) F dX1_estimate_0 rfl ?_
  refine xr_iload_n 1 F dX1_estimate_1 rfl ?_
  refine xr_iload_n 2 F dX1_estimate_2 rfl ?_
  refine xr_VR (y := yX1_sightingAt) (As := [.int p0, .int p1]) (r := (some a0)) F (hno _) dX1_estimate_3 (fun z => fX1_sightingAt_m (xFG F) z p0 p1) (Or.inl rfl) (ci := 0) (C := RX1) (T := TX1) rfl q2764 q2761 q2763 qs37 (xroom hRm (Nat.le_of_ble_eq_true rfl) (Nat.le_of_ble_eq_true rfl)) ⟨by decide, by decide⟩ n_X1_sightingAt rfl (xcat (Nat.le_of_ble_eq_true rfl)) (fun v3 => ?_)
  refine xs_a_n [] F dX1_estimate_6 hnL rfl rfl xk0 ?_
  refine xr_aload_n 0 (r := v3) F dX1_estimate_7 rfl ?_
  refine xr_ifnonnull 17 F dX1_estimate_8 rfl ?_ ?_
  · refine xr_ldc2 F dX1_estimate_11 q2778 ?_
    refine xr_goto 21 F dX1_estimate_14 rfl ?_
    exact xr_lret F dX1_estimate_21
  · refine xr_aload_n 0 (r := v3) F dX1_estimate_17 rfl ?_
    refine xr_VJ (y := yX17_estimate) (As := []) (r := v3) F (hno _) dX1_estimate_18 (fun z => fX17_estimate_m (xFG F) z) (Or.inl rfl) (ci := 37) (C := RX17) (T := TX17) rfl q2782 q2779 q2780 q2781 (xroom hRm (Nat.le_of_ble_eq_true rfl) (Nat.le_of_ble_eq_true rfl)) ⟨by decide, by decide⟩ n_X17_estimate rfl (xcat (Nat.le_of_ble_eq_true rfl)) (fun v18 => ?_)
    exact xr_lret F dX1_estimate_21
theorem fX0_estimate_m {l : Launch} {D : xD} {s0 : State} {b0 : Nat} {Γ : Nat → Option Nat} (G : xG l D s0 b0 Γ) (p0 : Option Nat) (p1 : Int32) (p2 : Int32) (p3 : Option Nat) : xMeth l D s0 Γ yX0_estimate (Cond.codeWith yX0_estimate cX0_estimate 5 (some .int) [(0, 9, 12, 25)]) (10) (179) [va_rf p0, .int p1, .int p2, va_rf p3] xeI (fX0_estimate p0 p1 p2 p3) := by
  refine xMeth.of (lv0 := [(0, va_rf p0), (1, .int p1), (2, .int p2), (3, va_rf p3)]) G (by decide +kernel) (Or.inr ⟨_, rfl⟩) (by simp [lg_sl, xrf_cat, xct_i, xct_l, xct_d, xct_r]) (by simp [lv_args, xrf_cat, xct_i, xct_l, xct_d, xct_r, xrf_some]) (fun x F hnL hRm hmn ht e1 e2 e3 e4 => ?_)
  have htb : x.2.2.2.2.2.2.2.2.2.1.exceptionTable.toList = tableOf [(0, 9, 12, 25)] := ht.2 _ rfl
  unfold fX0_estimate
  refine xr_aload_n 3 (r := p3) F dX0_estimate_0 rfl ?_
  refine xr_iconst (0 : Int32) F dX0_estimate_1 rfl ?_
  refine xr_aload_n 0 (r := p0) F dX0_estimate_2 rfl ?_
  refine xr_iload_n 1 F dX0_estimate_3 rfl ?_
  refine xr_iload_n 2 F dX0_estimate_4 rfl ?_
  refine xr_VJT (y := yX1_estimate) (As := [.int p1, .int p2]) (r := p0) F dX0_estimate_5 (fun z => fX1_estimate_m (xFG F) z p1 p2) (Or.inl rfl) (ci := 0) (C := RX1) (T := TX1) rfl q2777 q2774 q2775 q2776 (xroom hRm (Nat.le_of_ble_eq_true rfl) (Nat.le_of_ble_eq_true rfl)) ⟨by decide, by decide⟩ n_X1_estimate rfl (xcat (Nat.le_of_ble_eq_true rfl)) (fun v5 => ?_) (fun q => ?_)
  · refine xr_last (r := p3) F dX0_estimate_8 ?_
    refine xr_goto 16 F dX0_estimate_9 rfl ?_
    refine xr_iconst (0 : Int32) F dX0_estimate_16 rfl ?_
    exact xr_iret F dX0_estimate_17
  · refine xT.catch F htb (tableOf []) ⟨0, 9, 12, 25⟩ (tableOf []) rfl rfl xps0 rfl (Or.inr ⟨by decide, _, q2481, q739⟩) ?_
    refine xs_a [] F dX0_estimate_12 hnL rfl rfl xk0 ?_
    refine xr_iconst (1 : Int32) F dX0_estimate_14 rfl ?_
    exact xr_iret F dX0_estimate_15
theorem fX17_variance_m {l : Launch} {D : xD} {s0 : State} {b0 : Nat} {Γ : Nat → Option Nat} (G : xG l D s0 b0 Γ) (a0 : Nat) : xMeth l D s0 Γ yX17_variance (Cond.code yX17_variance cX17_variance 3 (some .double)) (1) (12) [.ref a0] xeD (fX17_variance a0) := by
  refine xMeth.of (lv0 := [(0, va_rf (some a0))]) G (by decide +kernel) (Or.inl rfl) (Nat.le_of_ble_eq_true rfl) rfl (fun x F hnL hRm hmn ht e1 e2 e3 e4 => ?_)
  have hno : ∀ pc, xNo x pc := fun pc z hz => by rw [ht.1 rfl] at hz; cases hz
  unfold fX17_variance
  refine xr_aload_n 0 (r := (some a0)) F dX17_variance_0 rfl ?_
  refine xr_gI (r := (some a0)) (ref := "ReserveLedger$Sighting") F dX17_variance_1 (C := RX17) (T := TX17) (N := 4) rfl (by decide) (Or.inl q3255) (Or.inl rfl) (fun v1 => ?_)
  refine xr_iconst (1 : Int32) F dX17_variance_4 rfl ?_
  refine xr_iadd F dX17_variance_5 ?_
  refine xr_i2d F dX17_variance_6 ?_
  refine xr_aload_n 0 (r := (some a0)) F dX17_variance_7 rfl ?_
  refine xr_gI (r := (some a0)) (ref := "ReserveLedger$Sighting") F dX17_variance_8 (C := RX17) (T := TX17) (N := 4) rfl (by decide) (Or.inl q3257) (Or.inl rfl) (fun v8 => ?_)
  refine xr_iconst (1 : Int32) F dX17_variance_11 rfl ?_
  refine xr_iadd F dX17_variance_12 ?_
  refine xr_i2d F dX17_variance_13 ?_
  refine xr_dmul F dX17_variance_14 ?_
  refine xr_aload_n 0 (r := (some a0)) F dX17_variance_15 rfl ?_
  refine xr_gI (r := (some a0)) (ref := "ReserveLedger$Sighting") F dX17_variance_16 (C := RX17) (T := TX17) (N := 4) rfl (by decide) (Or.inl q3255) (Or.inl rfl) (fun v16 => ?_)
  refine xr_aload_n 0 (r := (some a0)) F dX17_variance_19 rfl ?_
  refine xr_gI (r := (some a0)) (ref := "ReserveLedger$Sighting") F dX17_variance_20 (C := RX17) (T := TX17) (N := 4) rfl (by decide) (Or.inl q3259) (Or.inl rfl) (fun v20 => ?_)
  refine xr_isub F dX17_variance_23 ?_
  refine xr_i2d F dX17_variance_24 ?_
  refine xr_dmul F dX17_variance_25 ?_
  refine xr_aload_n 0 (r := (some a0)) F dX17_variance_26 rfl ?_
  refine xr_gI (r := (some a0)) (ref := "ReserveLedger$Sighting") F dX17_variance_27 (C := RX17) (T := TX17) (N := 4) rfl (by decide) (Or.inl q3257) (Or.inl rfl) (fun v27 => ?_)
  refine xr_aload_n 0 (r := (some a0)) F dX17_variance_30 rfl ?_
  refine xr_gI (r := (some a0)) (ref := "ReserveLedger$Sighting") F dX17_variance_31 (C := RX17) (T := TX17) (N := 4) rfl (by decide) (Or.inl q3259) (Or.inl rfl) (fun v31 => ?_)
  refine xr_isub F dX17_variance_34 ?_
  refine xr_i2d F dX17_variance_35 ?_
  refine xr_dmul F dX17_variance_36 ?_
  refine xr_letD (fun x1_37 => ?_)
  refine xs_d_n [0] F dX17_variance_37 hnL rfl rfl (xk2 rfl (xrf_cat _) xk0) (xk21 rfl xk20) ?_
  refine xr_dload_n 0 F dX17_variance_38 rfl ?_
  refine xr_aload_n 1 (r := (some a0)) F dX17_variance_39 rfl ?_
  refine xr_gI (r := (some a0)) (ref := "ReserveLedger$Sighting") F dX17_variance_40 (C := RX17) (T := TX17) (N := 4) rfl (by decide) (Or.inl q3259) (Or.inl rfl) (fun v40 => ?_)
  refine xr_iconst (1 : Int32) F dX17_variance_43 rfl ?_
  refine xr_iadd F dX17_variance_44 ?_
  refine xr_i2d F dX17_variance_45 ?_
  refine xr_ddiv F dX17_variance_46 ?_
  refine xr_aload_n 1 (r := (some a0)) F dX17_variance_47 rfl ?_
  refine xr_gI (r := (some a0)) (ref := "ReserveLedger$Sighting") F dX17_variance_48 (C := RX17) (T := TX17) (N := 4) rfl (by decide) (Or.inl q3259) (Or.inl rfl) (fun v48 => ?_)
  refine xr_iconst (1 : Int32) F dX17_variance_51 rfl ?_
  refine xr_iadd F dX17_variance_52 ?_
  refine xr_i2d F dX17_variance_53 ?_
  refine xr_ddiv F dX17_variance_54 ?_
  refine xr_aload_n 1 (r := (some a0)) F dX17_variance_55 rfl ?_
  refine xr_gI (r := (some a0)) (ref := "ReserveLedger$Sighting") F dX17_variance_56 (C := RX17) (T := TX17) (N := 4) rfl (by decide) (Or.inl q3259) (Or.inl rfl) (fun v56 => ?_)
  refine xr_iconst (2 : Int32) F dX17_variance_59 rfl ?_
  refine xr_iadd F dX17_variance_60 ?_
  refine xr_i2d F dX17_variance_61 ?_
  refine xr_ddiv F dX17_variance_62 ?_
  exact xr_dret F dX17_variance_63
theorem fX1_variance_m {l : Launch} {D : xD} {s0 : State} {b0 : Nat} {Γ : Nat → Option Nat} (G : xG l D s0 b0 Γ) (a0 : Nat) (p0 : Int32) (p1 : Int32) : xMeth l D s0 Γ yX1_variance (Cond.code yX1_variance cX1_variance 4 (some .double)) (9) (156) [.ref a0, .int p0, .int p1] xeD (fX1_variance a0 p0 p1) := by
  refine xMeth.of (lv0 := [(0, va_rf (some a0)), (1, .int p0), (2, .int p1)]) G (by decide +kernel) (Or.inl rfl) (Nat.le_of_ble_eq_true rfl) rfl (fun x F hnL hRm hmn ht e1 e2 e3 e4 => ?_)
  have hno : ∀ pc, xNo x pc := fun pc z hz => by rw [ht.1 rfl] at hz; cases hz
  unfold fX1_variance
  refine xr_aload_n 0 (r := (some a0)) F dX1_variance_0 rfl ?_
  refine xr_iload_n 1 F dX1_variance_1 rfl ?_
  refine xr_iload_n 2 F dX1_variance_2 rfl ?_
  refine xr_VR (y := yX1_sightingAt) (As := [.int p0, .int p1]) (r := (some a0)) F (hno _) dX1_variance_3 (fun z => fX1_sightingAt_m (xFG F) z p0 p1) (Or.inl rfl) (ci := 0) (C := RX1) (T := TX1) rfl q2764 q2761 q2763 qs37 (xroom hRm (Nat.le_of_ble_eq_true rfl) (Nat.le_of_ble_eq_true rfl)) ⟨by decide, by decide⟩ n_X1_sightingAt rfl (xcat (Nat.le_of_ble_eq_true rfl)) (fun v3 => ?_)
  refine xs_a_n [] F dX1_variance_6 hnL rfl rfl xk0 ?_
  refine xr_aload_n 0 (r := v3) F dX1_variance_7 rfl ?_
  refine xr_ifnonnull 15 F dX1_variance_8 rfl ?_ ?_
  · refine xr_dconst0 F dX1_variance_11 ?_
    refine xr_goto 19 F dX1_variance_12 rfl ?_
    exact xr_dret F dX1_variance_19
  · refine xr_aload_n 0 (r := v3) F dX1_variance_15 rfl ?_
    refine xr_VD (y := yX17_variance) (As := []) (r := v3) F (hno _) dX1_variance_16 (fun z => fX17_variance_m (xFG F) z) (Or.inl rfl) (ci := 37) (C := RX17) (T := TX17) rfl q2793 q2790 q2791 q2792 (xroom hRm (Nat.le_of_ble_eq_true rfl) (Nat.le_of_ble_eq_true rfl)) ⟨by decide, by decide⟩ n_X17_variance rfl (xcat (Nat.le_of_ble_eq_true rfl)) (fun v16 => ?_)
    exact xr_dret F dX1_variance_19
