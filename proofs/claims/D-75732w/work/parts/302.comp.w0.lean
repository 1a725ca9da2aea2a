theorem fJ0_init__J2_m {l : Launch} {D : xD} {s0 : State} {b0 : Nat} {Γ : Nat → Option Nat} (G : xG l D s0 b0 Γ) (a0 : Nat) : xMeth l D s0 Γ yJ0_init (Cond.code yJ0_init cJ0_init 1 none) (1) (20) [.ref a0] xeV (fJ0_init__J2 a0) := by
  refine xMeth.of (lv0 := [(0, va_rf (some a0))]) G (by decide +kernel) (Or.inl rfl) (Nat.le_of_ble_eq_true rfl) rfl (fun x F hnL hRm hmn ht e1 e2 e3 e4 => ?_)
  have hno : ∀ pc, xNo x pc := fun pc z hz => by rw [ht.1 rfl] at hz; cases hz
  unfold fJ0_init__J2
  refine xr_aload_n 0 (r := (some a0)) F dJ0_init_0 rfl ?_
  refine xr_obj F dJ0_init_1 q219 q200 (q_objcode) (xroom hRm (Nat.le_of_ble_eq_true rfl) (Nat.le_of_ble_eq_true rfl)) (xcat (Nat.le_of_ble_eq_true rfl)) ?_
  exact xr_vret F dJ0_init_4
theorem fJ1_init__J2_m {l : Launch} {D : xD} {s0 : State} {b0 : Nat} {Γ : Nat → Option Nat} (G : xG l D s0 b0 Γ) (a0 : Nat) : xMeth l D s0 Γ yJ1_init (Cond.code yJ1_init cJ1_init 1 none) (2) (40) [.ref a0] xeV (fJ1_init__J2 a0) := by
  refine xMeth.of (lv0 := [(0, va_rf (some a0))]) G (by decide +kernel) (Or.inl rfl) (Nat.le_of_ble_eq_true rfl) rfl (fun x F hnL hRm hmn ht e1 e2 e3 e4 => ?_)
  have hno : ∀ pc, xNo x pc := fun pc z hz => by rw [ht.1 rfl] at hz; cases hz
  unfold fJ1_init__J2
  refine xr_aload_n 0 (r := (some a0)) F dJ1_init_0 rfl ?_
  refine xr_IV (y := yJ0_init) (As := []) F (hno _) dJ1_init_1 (fJ0_init__J2_m (xFG F) a0) rfl rfl q218 (Or.inl q216) q217 (xroom hRm (Nat.le_of_ble_eq_true rfl) (Nat.le_of_ble_eq_true rfl)) ⟨by decide, by decide⟩ n_J0_init rfl (xcat (Nat.le_of_ble_eq_true rfl)) (fun _ => ?_)
  refine xr_aload_n 0 (r := (some a0)) F dJ1_init_4 rfl ?_
  refine xr_iconst (0 : Int32) F dJ1_init_5 rfl ?_
  refine xr_put (r := (some a0)) (ref := "java/util/AbstractList") F dJ1_init_6 xk_2 (by decide) (Or.inl q547) (Or.inl rfl) (Or.inl rfl) ⟨rfl, rfl⟩ ?_
  exact xr_vret F dJ1_init_9
theorem fJ2_init_m {l : Launch} {D : xD} {s0 : State} {b0 : Nat} {Γ : Nat → Option Nat} (G : xG l D s0 b0 Γ) (a0 : Nat) (p0 : Int32) : xMeth l D s0 Γ yJ2_init (Cond.code yJ2_init cJ2_init 2 none) (3) (60) [.ref a0, .int p0] xeV (fJ2_init a0 p0) := by
  refine xMeth.of (lv0 := [(0, va_rf (some a0)), (1, .int p0)]) G (by decide +kernel) (Or.inl rfl) (Nat.le_of_ble_eq_true rfl) rfl (fun x F hnL hRm hmn ht e1 e2 e3 e4 => ?_)
  have hno : ∀ pc, xNo x pc := fun pc z hz => by rw [ht.1 rfl] at hz; cases hz
  unfold fJ2_init
  refine xr_aload_n 0 (r := (some a0)) F dJ2_init_0 rfl ?_
  refine xr_IV (y := yJ1_init) (As := []) F (hno _) dJ2_init_1 (fJ1_init__J2_m (xFG F) a0) rfl rfl q215 (Or.inl q213) q214 (xroom hRm (Nat.le_of_ble_eq_true rfl) (Nat.le_of_ble_eq_true rfl)) ⟨by decide, by decide⟩ n_J1_init rfl (xcat (Nat.le_of_ble_eq_true rfl)) (fun _ => ?_)
  refine xr_iload_n 1 F dJ2_init_4 rfl ?_
  refine xr_if_le 19 F dJ2_init_5 rfl ?_ ?_
  · refine xr_iload_n 1 F dJ2_init_19 rfl ?_
    refine xr_if_ne 33 F dJ2_init_20 rfl ?_ ?_
    · refine xr_aload_n 0 (r := (some a0)) F dJ2_init_23 rfl ?_
      refine xr_gs (k := 16) F dJ2_init_24 rfl q222 (fun v24 => ?_)
      refine xr_put (r := (some a0)) (ref := "java/util/ArrayList") F dJ2_init_27 xk_2 (by decide) (Or.inl q543) (Or.inl rfl) (Or.inl rfl) (xr_rfa _ _) ?_
      refine xr_goto 60 F dJ2_init_30 rfl ?_
      exact xr_vret F dJ2_init_60
    · exact xI.stuck
  · refine xr_aload_n 0 (r := (some a0)) F dJ2_init_8 rfl ?_
    refine xr_iload_n 1 F dJ2_init_9 rfl ?_
    refine xr_anew F dJ2_init_10 rfl q220 q221 (fun v10 => ?_)
    refine xr_put (r := (some a0)) (ref := "java/util/ArrayList") F dJ2_init_13 xk_2 (by decide) (Or.inl q543) (Or.inl rfl) (Or.inl rfl) (xr_rfa _ _) ?_
    refine xr_goto 60 F dJ2_init_16 rfl ?_
    exact xr_vret F dJ2_init_60
theorem fJ0_init__J19_m {l : Launch} {D : xD} {s0 : State} {b0 : Nat} {Γ : Nat → Option Nat} (G : xG l D s0 b0 Γ) (a0 : Nat) : xMeth l D s0 Γ yJ0_init (Cond.code yJ0_init cJ0_init 1 none) (1) (20) [.ref a0] xeV (fJ0_init__J19 a0) := by
  refine xMeth.of (lv0 := [(0, va_rf (some a0))]) G (by decide +kernel) (Or.inl rfl) (Nat.le_of_ble_eq_true rfl) rfl (fun x F hnL hRm hmn ht e1 e2 e3 e4 => ?_)
  have hno : ∀ pc, xNo x pc := fun pc z hz => by rw [ht.1 rfl] at hz; cases hz
  unfold fJ0_init__J19
  refine xr_aload_n 0 (r := (some a0)) F dJ0_init_0 rfl ?_
  refine xr_obj F dJ0_init_1 q219 q200 (q_objcode) (xroom hRm (Nat.le_of_ble_eq_true rfl) (Nat.le_of_ble_eq_true rfl)) (xcat (Nat.le_of_ble_eq_true rfl)) ?_
  exact xr_vret F dJ0_init_4
theorem fJ1_init__J19_m {l : Launch} {D : xD} {s0 : State} {b0 : Nat} {Γ : Nat → Option Nat} (G : xG l D s0 b0 Γ) (a0 : Nat) : xMeth l D s0 Γ yJ1_init (Cond.code yJ1_init cJ1_init 1 none) (2) (40) [.ref a0] xeV (fJ1_init__J19 a0) := by
  refine xMeth.of (lv0 := [(0, va_rf (some a0))]) G (by decide +kernel) (Or.inl rfl) (Nat.le_of_ble_eq_true rfl) rfl (fun x F hnL hRm hmn ht e1 e2 e3 e4 => ?_)
  have hno : ∀ pc, xNo x pc := fun pc z hz => by rw [ht.1 rfl] at hz; cases hz
  unfold fJ1_init__J19
  refine xr_aload_n 0 (r := (some a0)) F dJ1_init_0 rfl ?_
  refine xr_IV (y := yJ0_init) (As := []) F (hno _) dJ1_init_1 (fJ0_init__J19_m (xFG F) a0) rfl rfl q218 (Or.inl q216) q217 (xroom hRm (Nat.le_of_ble_eq_true rfl) (Nat.le_of_ble_eq_true rfl)) ⟨by decide, by decide⟩ n_J0_init rfl (xcat (Nat.le_of_ble_eq_true rfl)) (fun _ => ?_)
  refine xr_aload_n 0 (r := (some a0)) F dJ1_init_4 rfl ?_
  refine xr_iconst (0 : Int32) F dJ1_init_5 rfl ?_
  refine xr_put (r := (some a0)) (ref := "java/util/AbstractList") F dJ1_init_6 xk_6 (by decide) (Or.inl q547) (Or.inl rfl) (Or.inl rfl) ⟨rfl, rfl⟩ ?_
  exact xr_vret F dJ1_init_9
theorem fJ18_init__J19_m {l : Launch} {D : xD} {s0 : State} {b0 : Nat} {Γ : Nat → Option Nat} (G : xG l D s0 b0 Γ) (a0 : Nat) : xMeth l D s0 Γ yJ18_init (Cond.code yJ18_init cJ18_init 1 none) (3) (60) [.ref a0] xeV (fJ18_init__J19 a0) := by
  refine xMeth.of (lv0 := [(0, va_rf (some a0))]) G (by decide +kernel) (Or.inl rfl) (Nat.le_of_ble_eq_true rfl) rfl (fun x F hnL hRm hmn ht e1 e2 e3 e4 => ?_)
  have hno : ∀ pc, xNo x pc := fun pc z hz => by rw [ht.1 rfl] at hz; cases hz
  unfold fJ18_init__J19
  refine xr_aload_n 0 (r := (some a0)) F dJ18_init_0 rfl ?_
  refine xr_IV (y := yJ1_init) (As := []) F (hno _) dJ18_init_1 (fJ1_init__J19_m (xFG F) a0) rfl rfl q215 (Or.inl q570) q214 (xroom hRm (Nat.le_of_ble_eq_true rfl) (Nat.le_of_ble_eq_true rfl)) ⟨by decide, by decide⟩ n_J1_init rfl (xcat (Nat.le_of_ble_eq_true rfl)) (fun _ => ?_)
  exact xr_vret F dJ18_init_4
theorem fJ19_init_m {l : Launch} {D : xD} {s0 : State} {b0 : Nat} {Γ : Nat → Option Nat} (G : xG l D s0 b0 Γ) (a0 : Nat) : xMeth l D s0 Γ yJ19_init (Cond.code yJ19_init cJ19_init 1 none) (4) (80) [.ref a0] xeV (fJ19_init a0) := by
  refine xMeth.of (lv0 := [(0, va_rf (some a0))]) G (by decide +kernel) (Or.inl rfl) (Nat.le_of_ble_eq_true rfl) rfl (fun x F hnL hRm hmn ht e1 e2 e3 e4 => ?_)
  have hno : ∀ pc, xNo x pc := fun pc z hz => by rw [ht.1 rfl] at hz; cases hz
  unfold fJ19_init
  refine xr_aload_n 0 (r := (some a0)) F dJ19_init_0 rfl ?_
  refine xr_IV (y := yJ18_init) (As := []) F (hno _) dJ19_init_1 (fJ18_init__J19_m (xFG F) a0) rfl rfl q569 (Or.inl q567) q568 (xroom hRm (Nat.le_of_ble_eq_true rfl) (Nat.le_of_ble_eq_true rfl)) ⟨by decide, by decide⟩ n_J18_init rfl (xcat (Nat.le_of_ble_eq_true rfl)) (fun _ => ?_)
  refine xr_aload_n 0 (r := (some a0)) F dJ19_init_4 rfl ?_
  refine xr_iconst (0 : Int32) F dJ19_init_5 rfl ?_
  refine xr_put (r := (some a0)) (ref := "java/util/LinkedList") F dJ19_init_6 xk_6 (by decide) (Or.inl q571) (Or.inl rfl) (Or.inl rfl) ⟨rfl, rfl⟩ ?_
  exact xr_vret F dJ19_init_9
theorem fX2_init_m {l : Launch} {D : xD} {s0 : State} {b0 : Nat} {Γ : Nat → Option Nat} (G : xG l D s0 b0 Γ) (a0 : Nat) : xMeth l D s0 Γ yX2_init (Cond.code yX2_init cX2_init 1 none) (5) (100) [.ref a0] xeV (fX2_init a0) := by
  refine xMeth.of (lv0 := [(0, va_rf (some a0))]) G (by decide +kernel) (Or.inl rfl) (Nat.le_of_ble_eq_true rfl) rfl (fun x F hnL hRm hmn ht e1 e2 e3 e4 => ?_)
  have hno : ∀ pc, xNo x pc := fun pc z hz => by rw [ht.1 rfl] at hz; cases hz
  unfold fX2_init
  refine xr_aload_n 0 (r := (some a0)) F dX2_init_0 rfl ?_
  refine xr_obj F dX2_init_1 q207 q200 (q_objcode) (xroom hRm (Nat.le_of_ble_eq_true rfl) (Nat.le_of_ble_eq_true rfl)) (xcat (Nat.le_of_ble_eq_true rfl)) ?_
  refine xr_aload_n 0 (r := (some a0)) F dX2_init_4 rfl ?_
  refine xr_new F dX2_init_5 xk_2 xdf_2 q208 q209 q125 (fun v5 => ?_)
  refine xr_dup F dX2_init_8 (xrf_cat _) ?_
  refine xr_iconst (4 : Int32) F dX2_init_9 rfl ?_
  refine xr_IV (y := yJ2_init) (As := [.int (4 : Int32)]) F (hno _) dX2_init_10 (fJ2_init_m (xFG F) v5 (4 : Int32)) rfl rfl q212 (Or.inl q210) q211 (xroom hRm (Nat.le_of_ble_eq_true rfl) (Nat.le_of_ble_eq_true rfl)) ⟨by decide, by decide⟩ n_J2_init rfl (xcat (Nat.le_of_ble_eq_true rfl)) (fun _ => ?_)
  refine xr_put (r := (some a0)) (ref := "ReserveLedger$State") F dX2_init_13 xk_1 (by decide) (Or.inl q583) (Or.inl rfl) (Or.inr ⟨rfl, hmn.1, rfl, q583⟩) (xr_rf _ _) ?_
  refine xr_aload_n 0 (r := (some a0)) F dX2_init_16 rfl ?_
  refine xr_new F dX2_init_17 xk_6 xdf_6 q562 q563 q143 (fun v17 => ?_)
  refine xr_dup F dX2_init_20 (xrf_cat _) ?_
  refine xr_IV (y := yJ19_init) (As := []) F (hno _) dX2_init_21 (fJ19_init_m (xFG F) v17) rfl rfl q566 (Or.inl q564) q565 (xroom hRm (Nat.le_of_ble_eq_true rfl) (Nat.le_of_ble_eq_true rfl)) ⟨by decide, by decide⟩ n_J19_init rfl (xcat (Nat.le_of_ble_eq_true rfl)) (fun _ => ?_)
  refine xr_put (r := (some a0)) (ref := "ReserveLedger$State") F dX2_init_24 xk_1 (by decide) (Or.inl q586) (Or.inl rfl) (Or.inr ⟨rfl, hmn.1, rfl, q586⟩) (xr_rf _ _) ?_
  exact xr_vret F dX2_init_27
theorem fX4_init_m {l : Launch} {D : xD} {s0 : State} {b0 : Nat} {Γ : Nat → Option Nat} (G : xG l D s0 b0 Γ) (a0 : Nat) (p0 : Option Nat) (p1 : Int32) : xMeth l D s0 Γ yX4_init (Cond.code yX4_init cX4_init 3 none) (6) (120) [.ref a0, va_rf p0, .int p1] xeV (fX4_init a0 p0 p1) := by
  refine xMeth.of (lv0 := [(0, va_rf (some a0)), (1, va_rf p0), (2, .int p1)]) G (by decide +kernel) (Or.inl rfl) (by simp [lg_sl, xrf_cat, xct_i, xct_l, xct_d, xct_r]) (by simp [lv_args, xrf_cat, xct_i, xct_l, xct_d, xct_r, xrf_some]) (fun x F hnL hRm hmn ht e1 e2 e3 e4 => ?_)
  have hno : ∀ pc, xNo x pc := fun pc z hz => by rw [ht.1 rfl] at hz; cases hz
  unfold fX4_init
  refine xr_aload_n 0 (r := (some a0)) F dX4_init_0 rfl ?_
  refine xr_aload_n 1 (r := p0) F dX4_init_1 rfl ?_
  refine xr_put (r := (some a0)) (ref := "ReserveLedger$Parser") F dX4_init_2 xk_17 (by decide) (Or.inl q1759) (Or.inl rfl) (Or.inr ⟨rfl, hmn.1, rfl, q1759⟩) (xr_rf _ _) ?_
  refine xr_aload_n 0 (r := (some a0)) F dX4_init_5 rfl ?_
  refine xr_obj F dX4_init_6 q1752 q200 (q_objcode) (xroom hRm (Nat.le_of_ble_eq_true rfl) (Nat.le_of_ble_eq_true rfl)) (xcat (Nat.le_of_ble_eq_true rfl)) ?_
  refine xr_aload_n 0 (r := (some a0)) F dX4_init_9 rfl ?_
  refine xr_new F dX4_init_10 xk_1 xdf_1 q1753 q203 q122 (fun v10 => ?_)
  refine xr_dup F dX4_init_13 (xrf_cat _) ?_
  refine xr_IV (y := yX2_init) (As := []) F (hno _) dX4_init_14 (fX2_init_m (xFG F) v10) rfl rfl q206 (Or.inr ⟨_, q1754⟩) q205 (xroom hRm (Nat.le_of_ble_eq_true rfl) (Nat.le_of_ble_eq_true rfl)) ⟨by decide, by decide⟩ n_X2_init rfl (xcat (Nat.le_of_ble_eq_true rfl)) (fun _ => ?_)
  refine xr_put (r := (some a0)) (ref := "ReserveLedger$Parser") F dX4_init_17 xk_17 (by decide) (Or.inl q1758) (Or.inl rfl) (Or.inr ⟨rfl, hmn.1, rfl, q1758⟩) (xr_rf _ _) ?_
  refine xr_aload_n 0 (r := (some a0)) F dX4_init_20 rfl ?_
  refine xr_iload_n 2 F dX4_init_21 rfl ?_
  refine xr_put (r := (some a0)) (ref := "ReserveLedger$Parser") F dX4_init_22 xk_17 (by decide) (Or.inl q1755) (Or.inl rfl) (Or.inr ⟨rfl, hmn.1, rfl, q1755⟩) ⟨rfl, rfl⟩ ?_
  exact xr_vret F dX4_init_25
theorem fJ20_hasNext_m {l : Launch} {D : xD} {s0 : State} {b0 : Nat} {Γ : Nat → Option Nat} (G : xG l D s0 b0 Γ) (a0 : Nat) : xMeth l D s0 Γ yJ20_hasNext (Cond.code yJ20_hasNext cJ20_hasNext 1 (some .boolean)) (1) (12) [.ref a0] xeI (fJ20_hasNext a0) := by
  refine xMeth.of (lv0 := [(0, va_rf (some a0))]) G (by decide +kernel) (Or.inl rfl) (Nat.le_of_ble_eq_true rfl) rfl (fun x F hnL hRm hmn ht e1 e2 e3 e4 => ?_)
  have hno : ∀ pc, xNo x pc := fun pc z hz => by rw [ht.1 rfl] at hz; cases hz
  unfold fJ20_hasNext
  refine xr_aload_n 0 (r := (some a0)) F dJ20_hasNext_0 rfl ?_
  refine xr_gI (r := (some a0)) (ref := "java/util/ArrayList$Itr") F dJ20_hasNext_1 (C := RJ20) (T := TJ20) (N := 4) rfl (by decide) (Or.inl q702) (Or.inl rfl) (fun v1 => ?_)
  refine xr_aload_n 0 (r := (some a0)) F dJ20_hasNext_4 rfl ?_
  refine xr_gR (r := (some a0)) (ref := "java/util/ArrayList$Itr") F dJ20_hasNext_5 (C := RJ20) (T := TJ20) (N := 4) rfl (by decide) (Or.inl q705) (Or.inl rfl) (fun v5 => ?_)
  refine xr_gI (r := v5) (ref := "java/util/ArrayList") F dJ20_hasNext_8 (C := RJ2) (T := TJ2) (N := 3) rfl (by decide) (Or.inr ⟨_, q545⟩) (Or.inl rfl) (fun v8 => ?_)
  refine xr_icmp_eq 18 F dJ20_hasNext_11 rfl ?_ ?_
  · refine xr_iconst (0 : Int32) F dJ20_hasNext_18 rfl ?_
    exact xr_zret F dJ20_hasNext_19 rfl
  · refine xr_iconst (1 : Int32) F dJ20_hasNext_14 rfl ?_
    refine xr_goto 19 F dJ20_hasNext_15 rfl ?_
    exact xr_zret F dJ20_hasNext_19 rfl
theorem fJ20_checkForComodification_m {l : Launch} {D : xD} {s0 : State} {b0 : Nat} {Γ : Nat → Option Nat} (G : xG l D s0 b0 Γ) (a0 : Nat) : xMeth l D s0 Γ yJ20_checkForComodification (Cond.code yJ20_checkForComodification cJ20_checkForComodification 1 none) (1) (12) [.ref a0] xeV (fJ20_checkForComodification a0) := by
  refine xMeth.of (lv0 := [(0, va_rf (some a0))]) G (by decide +kernel) (Or.inl rfl) (Nat.le_of_ble_eq_true rfl) rfl (fun x F hnL hRm hmn ht e1 e2 e3 e4 => ?_)
  have hno : ∀ pc, xNo x pc := fun pc z hz => by rw [ht.1 rfl] at hz; cases hz
  unfold fJ20_checkForComodification
  refine xr_aload_n 0 (r := (some a0)) F dJ20_checkForComodification_0 rfl ?_
  refine xr_gR (r := (some a0)) (ref := "java/util/ArrayList$Itr") F dJ20_checkForComodification_1 (C := RJ20) (T := TJ20) (N := 4) rfl (by decide) (Or.inl q705) (Or.inl rfl) (fun v1 => ?_)
  refine xr_gI (r := v1) (ref := "java/util/ArrayList") F dJ20_checkForComodification_4 (C := RJ2) (T := TJ2) (N := 3) rfl (by decide) (Or.inl q550) (Or.inr q551) (fun v4 => ?_)
  refine xr_aload_n 0 (r := (some a0)) F dJ20_checkForComodification_7 rfl ?_
  refine xr_gI (r := (some a0)) (ref := "java/util/ArrayList$Itr") F dJ20_checkForComodification_8 (C := RJ20) (T := TJ20) (N := 4) rfl (by decide) (Or.inl q704) (Or.inl rfl) (fun v8 => ?_)
  refine xr_icmp_eq 22 F dJ20_checkForComodification_11 rfl ?_ ?_
  · exact xr_vret F dJ20_checkForComodification_22
  · exact xI.stuck
theorem fJ20_next_m {l : Launch} {D : xD} {s0 : State} {b0 : Nat} {Γ : Nat → Option Nat} (G : xG l D s0 b0 Γ) (a0 : Nat) : xMeth l D s0 Γ yJ20_next (Cond.code yJ20_next cJ20_next 3 (some (.object "java/lang/Object"))) (2) (32) [.ref a0] xeR (fJ20_next a0) := by
  refine xMeth.of (lv0 := [(0, va_rf (some a0))]) G (by decide +kernel) (Or.inl rfl) (Nat.le_of_ble_eq_true rfl) rfl (fun x F hnL hRm hmn ht e1 e2 e3 e4 => ?_)
  have hno : ∀ pc, xNo x pc := fun pc z hz => by rw [ht.1 rfl] at hz; cases hz
  unfold fJ20_next
  refine xr_aload_n 0 (r := (some a0)) F dJ20_next_0 rfl ?_
  refine xr_VV (y := yJ20_checkForComodification) (As := []) (r := (some a0)) F (hno _) dJ20_next_1 (fun z => fJ20_checkForComodification_m (xFG F) z) (Or.inl rfl) (ci := 7) (C := RJ20) (T := TJ20) rfl q1081 q1076 q1077 q1078 (xroom hRm (Nat.le_of_ble_eq_true rfl) (Nat.le_of_ble_eq_true rfl)) ⟨by decide, by decide⟩ n_J20_checkForComodification rfl (xcat (Nat.le_of_ble_eq_true rfl)) (fun _ => ?_)
  refine xr_aload_n 0 (r := (some a0)) F dJ20_next_4 rfl ?_
  refine xr_gI (r := (some a0)) (ref := "java/util/ArrayList$Itr") F dJ20_next_5 (C := RJ20) (T := TJ20) (N := 4) rfl (by decide) (Or.inl q702) (Or.inl rfl) (fun v5 => ?_)
  refine xs_i_n [0] F dJ20_next_8 hnL rfl rfl (xk2 rfl (xrf_cat _) xk0) ?_
  refine xr_iload_n 0 F dJ20_next_9 rfl ?_
  refine xr_aload_n 1 (r := (some a0)) F dJ20_next_10 rfl ?_
  refine xr_gR (r := (some a0)) (ref := "java/util/ArrayList$Itr") F dJ20_next_11 (C := RJ20) (T := TJ20) (N := 4) rfl (by decide) (Or.inl q705) (Or.inl rfl) (fun v11 => ?_)
  refine xr_gI (r := v11) (ref := "java/util/ArrayList") F dJ20_next_14 (C := RJ2) (T := TJ2) (N := 3) rfl (by decide) (Or.inr ⟨_, q545⟩) (Or.inl rfl) (fun v14 => ?_)
  refine xr_icmp_lt 28 F dJ20_next_17 rfl ?_ ?_
  · refine xr_aload_n 1 (r := (some a0)) F dJ20_next_28 rfl ?_
    refine xr_gR (r := (some a0)) (ref := "java/util/ArrayList$Itr") F dJ20_next_29 (C := RJ20) (T := TJ20) (N := 4) rfl (by decide) (Or.inl q705) (Or.inl rfl) (fun v29 => ?_)
    refine xr_gR (r := v29) (ref := "java/util/ArrayList") F dJ20_next_32 (C := RJ2) (T := TJ2) (N := 3) rfl (by decide) (Or.inl q544) (Or.inl rfl) (fun v32 => ?_)
    refine xs_a_n [0, 1] F dJ20_next_35 hnL rfl rfl (xk2 rfl rfl (xk1 rfl rfl xk0)) ?_
    refine xr_iload_n 1 F dJ20_next_36 rfl ?_
    refine xr_aload_n 0 (r := v32) F dJ20_next_37 rfl ?_
    refine xr_len (r := v32) F dJ20_next_38 (fun v38 => ?_)
    refine xr_icmp_lt 50 F dJ20_next_39 rfl ?_ ?_
    · refine xr_aload_n 2 (r := (some a0)) F dJ20_next_50 rfl ?_
      refine xr_iload_n 1 F dJ20_next_51 rfl ?_
      refine xr_iconst (1 : Int32) F dJ20_next_52 rfl ?_
      refine xr_iadd F dJ20_next_53 ?_
      refine xr_put (r := (some a0)) (ref := "java/util/ArrayList$Itr") F dJ20_next_54 xk_7 (by decide) (Or.inl q702) (Or.inl rfl) (Or.inl rfl) ⟨rfl, rfl⟩ ?_
      refine xr_aload_n 0 (r := v32) F dJ20_next_57 rfl ?_
      refine xr_aload_n 2 (r := (some a0)) F dJ20_next_58 rfl ?_
      refine xr_iload_n 1 F dJ20_next_59 rfl ?_
      refine xr_dup_x1 F dJ20_next_60 rfl (xrf_cat _) ?_
      refine xr_put (r := (some a0)) (ref := "java/util/ArrayList$Itr") F dJ20_next_61 xk_7 (by decide) (Or.inl q703) (Or.inl rfl) (Or.inl rfl) ⟨rfl, rfl⟩ ?_
      refine xr_aald (r := v32) F dJ20_next_64 (fun v64 => ?_)
      exact xr_aret (v := v64) F dJ20_next_65 (Or.inl ⟨_, rfl⟩)
    · exact xI.stuck
  · exact xI.stuck
theorem fX10_total_p13_ok {x : xC} (F : xF x RX10 cX10_total (some .int)) (hnL : xnL x = 6) (hRm : ∃ dc ds, x.2.2.2.1 = { frames := 1, cells := dc, slots := ds, locals := 12 }) (hno : ∀ pc, xNo x pc) (hmn : xmn x = "total" ∧ xmy x yX10_total) : ∀ (n : Nat) (l1 : Int32) (l2 : Option Nat) (l3 : Int32) (l4 : Int32), xI x xeI 13 [(1, .int l1), (2, va_rf l2), (3, .int l3), (4, .int l4)] [] (fX10_total_p13 n l1 l2 l3 l4) := by
  intro n
  induction n with
  | zero => intro l1 l2 l3 l4; exact xI.stuck
  | succ n ih =>
    intro l1 l2 l3 l4
    unfold fX10_total_p13
    refine xr_iload 3 F dX10_total_13 rfl ?_
    refine xr_iload_n 2 F dX10_total_15 rfl ?_
    refine xr_icmp_ge 36 F dX10_total_16 rfl ?_ ?_
    · refine xr_iload_n 0 F dX10_total_36 rfl ?_
      exact xr_iret F dX10_total_37
    · refine xr_aload_n 1 (r := l2) F dX10_total_19 rfl ?_
      refine xr_iload 3 F dX10_total_20 rfl ?_
      refine xr_iald (r := l2) F dX10_total_22 (fun v22 => ?_)
      refine xs_i [0, 1, 2, 3] F dX10_total_23 hnL rfl rfl (xk1 rfl rfl (xk1 rfl rfl (xk1 rfl rfl (xk2 rfl rfl xk0)))) ?_
      refine xr_iload_n 1 F dX10_total_25 rfl ?_
      refine xr_iload 0 F dX10_total_26 rfl ?_
      refine xr_iadd F dX10_total_28 ?_
      refine xr_letI (fun x1_29 => ?_)
      refine xs_i_n [2, 3, 4] F dX10_total_29 hnL rfl rfl (xk1 rfl rfl (xk1 rfl rfl (xk1 rfl rfl xk0))) ?_
      refine xs_inc [3, 0, 1, 2] F dX10_total_30 rfl hnL rfl rfl (xk1 rfl rfl (xk1 rfl rfl (xk2 rfl rfl xk0))) (fun x4_30 => ?_)
      refine xr_goto 13 F dX10_total_33 rfl ?_
      exact xI.sub [1, 2, 3, 0] rfl (ih x1_29 l2 l3 x4_30)
theorem fX10_total_m {l : Launch} {D : xD} {s0 : State} {b0 : Nat} {Γ : Nat → Option Nat} (G : xG l D s0 b0 Γ) (a0 : Nat) : xMeth l D s0 Γ yX10_total (Cond.code yX10_total cX10_total 6 (some .int)) (1) (12) [.ref a0] xeI (fX10_total a0) := by
  refine xMeth.of (lv0 := [(0, va_rf (some a0))]) G (by decide +kernel) (Or.inl rfl) (Nat.le_of_ble_eq_true rfl) rfl (fun x F hnL hRm hmn ht e1 e2 e3 e4 => ?_)
  have hno : ∀ pc, xNo x pc := fun pc z hz => by rw [ht.1 rfl] at hz; cases hz
  unfold fX10_total
  refine xr_iconst (0 : Int32) F dX10_total_0 rfl ?_
  refine xr_letI (fun x1_1 => ?_)
  refine xs_i_n [0] F dX10_total_1 hnL rfl rfl (xk2 rfl (xrf_cat _) xk0) ?_
  refine xr_aload_n 1 (r := (some a0)) F dX10_total_2 rfl ?_
  refine xr_gR (r := (some a0)) (ref := "ReserveLedger$Stock") F dX10_total_3 (C := RX10) (T := TX10) (N := 4) rfl (by decide) (Or.inl q2019) (Or.inl rfl) (fun v3 => ?_)
  refine xs_a_n [0] F dX10_total_6 hnL rfl rfl (xk2 rfl rfl xk0) ?_
  refine xr_aload_n 0 (r := v3) F dX10_total_7 rfl ?_
  refine xr_len (r := v3) F dX10_total_8 (fun v8 => ?_)
  refine xs_i_n [0, 1] F dX10_total_9 hnL rfl rfl (xk2 rfl (xrf_cat _) (xk1 rfl rfl xk0)) ?_
  refine xr_iconst (0 : Int32) F dX10_total_10 rfl ?_
  refine xr_letI (fun x4_11 => ?_)
  refine xs_i [0, 1, 2] F dX10_total_11 hnL rfl rfl (xk2 rfl rfl (xk1 rfl rfl (xk1 rfl rfl xk0))) ?_
  exact xI.sub [3, 2, 1, 0] rfl (fX10_total_p13_ok F hnL hRm hno hmn xFU x1_1 v3 v8 x4_11)
theorem fX9_init_m {l : Launch} {D : xD} {s0 : State} {b0 : Nat} {Γ : Nat → Option Nat} (G : xG l D s0 b0 Γ) (a0 : Nat) (p0 : Int32) : xMeth l D s0 Γ yX9_init (Cond.code yX9_init cX9_init 2 none) (1) (20) [.ref a0, .int p0] xeV (fX9_init a0 p0) := by
  refine xMeth.of (lv0 := [(0, va_rf (some a0)), (1, .int p0)]) G (by decide +kernel) (Or.inl rfl) (Nat.le_of_ble_eq_true rfl) rfl (fun x F hnL hRm hmn ht e1 e2 e3 e4 => ?_)
  have hno : ∀ pc, xNo x pc := fun pc z hz => by rw [ht.1 rfl] at hz; cases hz
  unfold fX9_init
  refine xr_aload_n 0 (r := (some a0)) F dX9_init_0 rfl ?_
  refine xr_obj F dX9_init_1 q1957 q200 (q_objcode) (xroom hRm (Nat.le_of_ble_eq_true rfl) (Nat.le_of_ble_eq_true rfl)) (xcat (Nat.le_of_ble_eq_true rfl)) ?_
  refine xr_aload_n 0 (r := (some a0)) F dX9_init_4 rfl ?_
  refine xr_iload_n 1 F dX9_init_5 rfl ?_
  refine xr_put (r := (some a0)) (ref := "ReserveLedger$Ledger") F dX9_init_6 xk_22 (by decide) (Or.inl q1958) (Or.inl rfl) (Or.inr ⟨rfl, hmn.1, rfl, q1958⟩) ⟨rfl, rfl⟩ ?_
  exact xr_vret F dX9_init_9
theorem fX10_adults_p10_ok {x : xC} (F : xF x RX10 cX10_adults (some .int)) (hnL : xnL x = 3) (hRm : ∃ dc ds, x.2.2.2.1 = { frames := 1, cells := dc, slots := ds, locals := 12 }) (hno : ∀ pc, xNo x pc) (hmn : xmn x = "adults" ∧ xmy x yX10_adults) : ∀ (n : Nat) (l0 : Nat) (l1 : Int32) (l2 : Int32), xI x xeI 10 [(0, va_rf (some l0)), (1, .int l1), (2, .int l2)] [] (fX10_adults_p10 n l0 l1 l2) := by
  intro n
  induction n with
  | zero => intro l0 l1 l2; exact xI.stuck
  | succ n ih =>
    intro l0 l1 l2
    unfold fX10_adults_p10
    refine xr_iload_n 2 F dX10_adults_10 rfl ?_
    refine xr_aload_n 0 (r := (some l0)) F dX10_adults_11 rfl ?_
    refine xr_gR (r := (some l0)) (ref := "ReserveLedger$Stock") F dX10_adults_12 (C := RX10) (T := TX10) (N := 4) rfl (by decide) (Or.inl q2018) (Or.inl rfl) (fun v12 => ?_)
    refine xr_gI (r := v12) (ref := "ReserveLedger$Species") F dX10_adults_15 (C := RX7) (T := TX7) (N := 6) rfl (by decide) (Or.inr ⟨_, q1919⟩) (Or.inl rfl) (fun v15 => ?_)
    refine xr_icmp_gt 36 F dX10_adults_18 rfl ?_ ?_
    · refine xr_iload_n 1 F dX10_adults_36 rfl ?_
      exact xr_iret F dX10_adults_37
    · refine xr_iload_n 1 F dX10_adults_21 rfl ?_
      refine xr_aload_n 0 (r := (some l0)) F dX10_adults_22 rfl ?_
      refine xr_gR (r := (some l0)) (ref := "ReserveLedger$Stock") F dX10_adults_23 (C := RX10) (T := TX10) (N := 4) rfl (by decide) (Or.inl q2019) (Or.inl rfl) (fun v23 => ?_)
      refine xr_iload_n 2 F dX10_adults_26 rfl ?_
      refine xr_iald (r := v23) F dX10_adults_27 (fun v27 => ?_)
      refine xr_iadd F dX10_adults_28 ?_
      refine xr_letI (fun x1_29 => ?_)
      refine xs_i_n [0, 2] F dX10_adults_29 hnL rfl rfl (xk2 rfl (xrf_cat _) (xk1 rfl rfl xk0)) ?_
      refine xs_inc [2, 0, 1] F dX10_adults_30 rfl hnL rfl rfl (xk2 rfl rfl (xk1 rfl rfl xk0)) (fun x2_30 => ?_)
      refine xr_goto 10 F dX10_adults_33 rfl ?_
      exact xI.sub [2, 1, 0] rfl (ih l0 x1_29 x2_30)
theorem fX10_adults_m {l : Launch} {D : xD} {s0 : State} {b0 : Nat} {Γ : Nat → Option Nat} (G : xG l D s0 b0 Γ) (a0 : Nat) : xMeth l D s0 Γ yX10_adults (Cond.code yX10_adults cX10_adults 3 (some .int)) (1) (12) [.ref a0] xeI (fX10_adults a0) := by
  refine xMeth.of (lv0 := [(0, va_rf (some a0))]) G (by decide +kernel) (Or.inl rfl) (Nat.le_of_ble_eq_true rfl) rfl (fun x F hnL hRm hmn ht e1 e2 e3 e4 => ?_)
  have hno : ∀ pc, xNo x pc := fun pc z hz => by rw [ht.1 rfl] at hz; cases hz
  unfold fX10_adults
  refine xr_iconst (0 : Int32) F dX10_adults_0 rfl ?_
  refine xr_letI (fun x1_1 => ?_)
  refine xs_i_n [0] F dX10_adults_1 hnL rfl rfl (xk2 rfl (xrf_cat _) xk0) ?_
  refine xr_aload_n 1 (r := (some a0)) F dX10_adults_2 rfl ?_
  refine xr_gR (r := (some a0)) (ref := "ReserveLedger$Stock") F dX10_adults_3 (C := RX10) (T := TX10) (N := 4) rfl (by decide) (Or.inl q2018) (Or.inl rfl) (fun v3 => ?_)
  refine xr_gI (r := v3) (ref := "ReserveLedger$Species") F dX10_adults_6 (C := RX7) (T := TX7) (N := 6) rfl (by decide) (Or.inr ⟨_, q1927⟩) (Or.inl rfl) (fun v6 => ?_)
  refine xs_i_n [0, 1] F dX10_adults_9 hnL rfl rfl (xk2 rfl rfl (xk1 rfl rfl xk0)) ?_
  exact xI.sub [2, 1, 0] rfl (fX10_adults_p10_ok F hnL hRm hno hmn xFU a0 x1_1 v6)
theorem fX6_cohort_m {l : Launch} {D : xD} {s0 : State} {b0 : Nat} {Γ : Nat → Option Nat} (G : xG l D s0 b0 Γ) (a0 : Nat) (p0 : Int32) : xMeth l D s0 Γ yX6_cohort (Cond.code yX6_cohort cX6_cohort 2 (some .int)) (1) (12) [.ref a0, .int p0] xeI (fX6_cohort a0 p0) := by
  refine xMeth.of (lv0 := [(0, va_rf (some a0)), (1, .int p0)]) G (by decide +kernel) (Or.inl rfl) (Nat.le_of_ble_eq_true rfl) rfl (fun x F hnL hRm hmn ht e1 e2 e3 e4 => ?_)
  have hno : ∀ pc, xNo x pc := fun pc z hz => by rw [ht.1 rfl] at hz; cases hz
  unfold fX6_cohort
  refine xr_aload_n 0 (r := (some a0)) F dX6_cohort_0 rfl ?_
  refine xr_gR (r := (some a0)) (ref := "ReserveLedger$Herd") F dX6_cohort_1 (C := RX6) (T := TX6) (N := 8) rfl (by decide) (Or.inl q2042) (Or.inl rfl) (fun v1 => ?_)
  refine xr_gR (r := v1) (ref := "ReserveLedger$Stock") F dX6_cohort_4 (C := RX10) (T := TX10) (N := 4) rfl (by decide) (Or.inr ⟨_, q2020⟩) (Or.inl rfl) (fun v4 => ?_)
  refine xr_iload_n 1 F dX6_cohort_7 rfl ?_
  refine xr_iald (r := v4) F dX6_cohort_8 (fun v8 => ?_)
  exact xr_iret F dX6_cohort_9
theorem fX13_init_m {l : Launch} {D : xD} {s0 : State} {b0 : Nat} {Γ : Nat → Option Nat} (G : xG l D s0 b0 Γ) (a0 : Nat) (p0 : Int64) (p1 : Int64) (p2 : Int64) (p3 : Int64) : xMeth l D s0 Γ yX13_init (Cond.code yX13_init cX13_init 9 none) (1) (20) [.ref a0, .long p0, .long p1, .long p2, .long p3] xeV (fX13_init a0 p0 p1 p2 p3) := by
  refine xMeth.of (lv0 := [(0, va_rf (some a0)), (1, .long p0), (3, .long p1), (5, .long p2), (7, .long p3)]) G (by decide +kernel) (Or.inl rfl) (Nat.le_of_ble_eq_true rfl) rfl (fun x F hnL hRm hmn ht e1 e2 e3 e4 => ?_)
  have hno : ∀ pc, xNo x pc := fun pc z hz => by rw [ht.1 rfl] at hz; cases hz
  unfold fX13_init
  refine xr_aload_n 0 (r := (some a0)) F dX13_init_0 rfl ?_
  refine xr_obj F dX13_init_1 q2327 q200 (q_objcode) (xroom hRm (Nat.le_of_ble_eq_true rfl) (Nat.le_of_ble_eq_true rfl)) (xcat (Nat.le_of_ble_eq_true rfl)) ?_
  refine xr_aload_n 0 (r := (some a0)) F dX13_init_4 rfl ?_
  refine xr_lload_n 1 F dX13_init_5 rfl ?_
  refine xr_put (r := (some a0)) (ref := "ReserveLedger$Facts") F dX13_init_6 xk_28 (by decide) (Or.inl q2328) (Or.inl rfl) (Or.inr ⟨rfl, hmn.1, rfl, q2328⟩) ⟨rfl, rfl⟩ ?_
  refine xr_aload_n 0 (r := (some a0)) F dX13_init_9 rfl ?_
  refine xr_lload_n 2 F dX13_init_10 rfl ?_
  refine xr_put (r := (some a0)) (ref := "ReserveLedger$Facts") F dX13_init_11 xk_28 (by decide) (Or.inl q2330) (Or.inl rfl) (Or.inr ⟨rfl, hmn.1, rfl, q2330⟩) ⟨rfl, rfl⟩ ?_
  refine xr_aload_n 0 (r := (some a0)) F dX13_init_14 rfl ?_
  refine xr_lload 3 F dX13_init_15 rfl ?_
  refine xr_put (r := (some a0)) (ref := "ReserveLedger$Facts") F dX13_init_17 xk_28 (by decide) (Or.inl q2332) (Or.inl rfl) (Or.inr ⟨rfl, hmn.1, rfl, q2332⟩) ⟨rfl, rfl⟩ ?_
  refine xr_aload_n 0 (r := (some a0)) F dX13_init_20 rfl ?_
  refine xr_lload 4 F dX13_init_21 rfl ?_
  refine xr_put (r := (some a0)) (ref := "ReserveLedger$Facts") F dX13_init_23 xk_28 (by decide) (Or.inl q2334) (Or.inl rfl) (Or.inr ⟨rfl, hmn.1, rfl, q2334⟩) ⟨rfl, rfl⟩ ?_
  exact xr_vret F dX13_init_26
theorem fX8_value_m {l : Launch} {D : xD} {s0 : State} {b0 : Nat} {Γ : Nat → Option Nat} (G : xG l D s0 b0 Γ) (a0 : Nat) (p0 : Option Nat) : xMeth l D s0 Γ yX8_value (Cond.code yX8_value cX8_value 2 (some .long)) (1) (12) [.ref a0, va_rf p0] xeJ (fX8_value a0 p0) := by
  refine xMeth.of (lv0 := [(0, va_rf (some a0)), (1, va_rf p0)]) G (by decide +kernel) (Or.inl rfl) (by simp [lg_sl, xrf_cat, xct_i, xct_l, xct_d, xct_r]) (by simp [lv_args, xrf_cat, xct_i, xct_l, xct_d, xct_r, xrf_some]) (fun x F hnL hRm hmn ht e1 e2 e3 e4 => ?_)
  have hno : ∀ pc, xNo x pc := fun pc z hz => by rw [ht.1 rfl] at hz; cases hz
  unfold fX8_value
  refine xr_aload_n 0 (r := (some a0)) F dX8_value_0 rfl ?_
  refine xr_gJ (r := (some a0)) (ref := "ReserveLedger$Literal") F dX8_value_1 (C := RX8) (T := TX8) (N := 1) rfl (by decide) (Or.inl q1874) (Or.inl rfl) (fun v1 => ?_)
  exact xr_lret F dX8_value_4
theorem fX19_of_m {l : Launch} {D : xD} {s0 : State} {b0 : Nat} {Γ : Nat → Option Nat} (G : xG l D s0 b0 Γ) (a0 : Nat) (p0 : Option Nat) : xMeth l D s0 Γ yX19_of (Cond.code yX19_of cX19_of 2 (some .long)) (1) (12) [.ref a0, va_rf p0] xeJ (fX19_of a0 p0) := by
  refine xMeth.of (lv0 := [(0, va_rf (some a0)), (1, va_rf p0)]) G (by decide +kernel) (Or.inl rfl) (by simp [lg_sl, xrf_cat, xct_i, xct_l, xct_d, xct_r]) (by simp [lv_args, xrf_cat, xct_i, xct_l, xct_d, xct_r, xrf_some]) (fun x F hnL hRm hmn ht e1 e2 e3 e4 => ?_)
  have hno : ∀ pc, xNo x pc := fun pc z hz => by rw [ht.1 rfl] at hz; cases hz
  unfold fX19_of
  refine xr_aload_n 1 (r := p0) F dX19_of_0 rfl ?_
  refine xr_gJ (r := p0) (ref := "ReserveLedger$Facts") F dX19_of_1 (C := RX13) (T := TX13) (N := 4) rfl (by decide) (Or.inr ⟨_, q2329⟩) (Or.inl rfl) (fun v1 => ?_)
  exact xr_lret F dX19_of_4
theorem fX20_of_m {l : Launch} {D : xD} {s0 : State} {b0 : Nat} {Γ : Nat → Option Nat} (G : xG l D s0 b0 Γ) (a0 : Nat) (p0 : Option Nat) : xMeth l D s0 Γ yX20_of (Cond.code yX20_of cX20_of 2 (some .long)) (1) (12) [.ref a0, va_rf p0] xeJ (fX20_of a0 p0) := by
  refine xMeth.of (lv0 := [(0, va_rf (some a0)), (1, va_rf p0)]) G (by decide +kernel) (Or.inl rfl) (by simp [lg_sl, xrf_cat, xct_i, xct_l, xct_d, xct_r]) (by simp [lv_args, xrf_cat, xct_i, xct_l, xct_d, xct_r, xrf_some]) (fun x F hnL hRm hmn ht e1 e2 e3 e4 => ?_)
  have hno : ∀ pc, xNo x pc := fun pc z hz => by rw [ht.1 rfl] at hz; cases hz
  unfold fX20_of
  refine xr_aload_n 1 (r := p0) F dX20_of_0 rfl ?_
  refine xr_gJ (r := p0) (ref := "ReserveLedger$Facts") F dX20_of_1 (C := RX13) (T := TX13) (N := 4) rfl (by decide) (Or.inr ⟨_, q2331⟩) (Or.inl rfl) (fun v1 => ?_)
  exact xr_lret F dX20_of_4
theorem fX21_of_m {l : Launch} {D : xD} {s0 : State} {b0 : Nat} {Γ : Nat → Option Nat} (G : xG l D s0 b0 Γ) (a0 : Nat) (p0 : Option Nat) : xMeth l D s0 Γ yX21_of (Cond.code yX21_of cX21_of 2 (some .long)) (1) (12) [.ref a0, va_rf p0] xeJ (fX21_of a0 p0) := by
  refine xMeth.of (lv0 := [(0, va_rf (some a0)), (1, va_rf p0)]) G (by decide +kernel) (Or.inl rfl) (by simp [lg_sl, xrf_cat, xct_i, xct_l, xct_d, xct_r]) (by simp [lv_args, xrf_cat, xct_i, xct_l, xct_d, xct_r, xrf_some]) (fun x F hnL hRm hmn ht e1 e2 e3 e4 => ?_)
  have hno : ∀ pc, xNo x pc := fun pc z hz => by rw [ht.1 rfl] at hz; cases hz
  unfold fX21_of
  refine xr_aload_n 1 (r := p0) F dX21_of_0 rfl ?_
  refine xr_gJ (r := p0) (ref := "ReserveLedger$Facts") F dX21_of_1 (C := RX13) (T := TX13) (N := 4) rfl (by decide) (Or.inr ⟨_, q2333⟩) (Or.inl rfl) (fun v1 => ?_)
  exact xr_lret F dX21_of_4
theorem fX22_of_m {l : Launch} {D : xD} {s0 : State} {b0 : Nat} {Γ : Nat → Option Nat} (G : xG l D s0 b0 Γ) (a0 : Nat) (p0 : Option Nat) : xMeth l D s0 Γ yX22_of (Cond.code yX22_of cX22_of 2 (some .long)) (1) (12) [.ref a0, va_rf p0] xeJ (fX22_of a0 p0) := by
  refine xMeth.of (lv0 := [(0, va_rf (some a0)), (1, va_rf p0)]) G (by decide +kernel) (Or.inl rfl) (by simp [lg_sl, xrf_cat, xct_i, xct_l, xct_d, xct_r]) (by simp [lv_args, xrf_cat, xct_i, xct_l, xct_d, xct_r, xrf_some]) (fun x F hnL hRm hmn ht e1 e2 e3 e4 => ?_)
  have hno : ∀ pc, xNo x pc := fun pc z hz => by rw [ht.1 rfl] at hz; cases hz
  unfold fX22_of
  refine xr_aload_n 1 (r := p0) F dX22_of_0 rfl ?_
  refine xr_gJ (r := p0) (ref := "ReserveLedger$Facts") F dX22_of_1 (C := RX13) (T := TX13) (N := 4) rfl (by decide) (Or.inr ⟨_, q2335⟩) (Or.inl rfl) (fun v1 => ?_)
  exact xr_lret F dX22_of_4
theorem fX11_value_m {l : Launch} {D : xD} {s0 : State} {b0 : Nat} {Γ : Nat → Option Nat} (G : xG l D s0 b0 Γ) (a0 : Nat) (p0 : Option Nat) : xMeth l D s0 Γ yX11_value (Cond.code yX11_value cX11_value 2 (some .long)) (2) (33) [.ref a0, va_rf p0] xeJ (fX11_value a0 p0) := by
  refine xMeth.of (lv0 := [(0, va_rf (some a0)), (1, va_rf p0)]) G (by decide +kernel) (Or.inl rfl) (by simp [lg_sl, xrf_cat, xct_i, xct_l, xct_d, xct_r]) (by simp [lv_args, xrf_cat, xct_i, xct_l, xct_d, xct_r, xrf_some]) (fun x F hnL hRm hmn ht e1 e2 e3 e4 => ?_)
  have hno : ∀ pc, xNo x pc := fun pc z hz => by rw [ht.1 rfl] at hz; cases hz
  unfold fX11_value
  refine xr_aload_n 0 (r := (some a0)) F dX11_value_0 rfl ?_
  refine xr_gR (r := (some a0)) (ref := "ReserveLedger$Named") F dX11_value_1 (C := RX11) (T := TX11) (N := 1) rfl (by decide) (Or.inl q2267) (Or.inl rfl) (fun v1 => ?_)
  refine xr_aload_n 1 (r := p0) F dX11_value_4 rfl ?_
  refine xI.alt2 (Kp := ∀ (v5 : Int64), xI x xeJ 8 [(0, va_rf (some a0)), (1, va_rf p0)] [.long v5] _) ?_ (fun hK => xr_UJ (x0 := ⟨"ReserveLedger$Fact", "of", "(LReserveLedger$Facts;)J"⟩) (y := yX19_of) (As := [va_rf p0]) (r := v1) F (hno _) dX11_value_5 (fun z => fX19_of_m (xFG F) z p0) rfl (ci := 40) (C := RX19) (T := TX19) rfl q2371 q2366 q2370 q2369 q2368 (Or.inr q2367) (xroom hRm (Nat.le_of_ble_eq_true rfl) (Nat.le_of_ble_eq_true rfl)) ⟨by decide, by decide⟩ n_X19_of rfl (xcat (Nat.le_of_ble_eq_true rfl)) hK) (fun hK => (xI.alt2 hK (fun hK => xr_UJ (x0 := ⟨"ReserveLedger$Fact", "of", "(LReserveLedger$Facts;)J"⟩) (y := yX20_of) (As := [va_rf p0]) (r := v1) F (hno _) dX11_value_5 (fun z => fX20_of_m (xFG F) z p0) rfl (ci := 41) (C := RX20) (T := TX20) rfl q2374 q2366 q2373 q2372 q2368 (Or.inr q2367) (xroom hRm (Nat.le_of_ble_eq_true rfl) (Nat.le_of_ble_eq_true rfl)) ⟨by decide, by decide⟩ n_X20_of rfl (xcat (Nat.le_of_ble_eq_true rfl)) hK) (fun hK => (xI.alt2 hK (fun hK => xr_UJ (x0 := ⟨"ReserveLedger$Fact", "of", "(LReserveLedger$Facts;)J"⟩) (y := yX21_of) (As := [va_rf p0]) (r := v1) F (hno _) dX11_value_5 (fun z => fX21_of_m (xFG F) z p0) rfl (ci := 42) (C := RX21) (T := TX21) rfl q2377 q2366 q2376 q2375 q2368 (Or.inr q2367) (xroom hRm (Nat.le_of_ble_eq_true rfl) (Nat.le_of_ble_eq_true rfl)) ⟨by decide, by decide⟩ n_X21_of rfl (xcat (Nat.le_of_ble_eq_true rfl)) hK) (fun hK => (xr_UJ (x0 := ⟨"ReserveLedger$Fact", "of", "(LReserveLedger$Facts;)J"⟩) (y := yX22_of) (As := [va_rf p0]) (r := v1) F (hno _) dX11_value_5 (fun z => fX22_of_m (xFG F) z p0) rfl (ci := 43) (C := RX22) (T := TX22) rfl q2380 q2366 q2379 q2378 q2368 (Or.inr q2367) (xroom hRm (Nat.le_of_ble_eq_true rfl) (Nat.le_of_ble_eq_true rfl)) ⟨by decide, by decide⟩ n_X22_of rfl (xcat (Nat.le_of_ble_eq_true rfl)) hK))))))
  intro v5
  exact xr_lret F dX11_value_8
theorem fX26_of_m {l : Launch} {D : xD} {s0 : State} {b0 : Nat} {Γ : Nat → Option Nat} (G : xG l D s0 b0 Γ) (a0 : Nat) (p0 : Int64) (p1 : Int64) : xMeth l D s0 Γ yX26_of (Cond.code yX26_of cX26_of 5 (some .long)) (1) (12) [.ref a0, .long p0, .long p1] xeJ (fX26_of a0 p0 p1) := by
  refine xMeth.of (lv0 := [(0, va_rf (some a0)), (1, .long p0), (3, .long p1)]) G (by decide +kernel) (Or.inl rfl) (Nat.le_of_ble_eq_true rfl) rfl (fun x F hnL hRm hmn ht e1 e2 e3 e4 => ?_)
  have hno : ∀ pc, xNo x pc := fun pc z hz => by rw [ht.1 rfl] at hz; cases hz
  unfold fX26_of
  refine xr_lload_n 1 F dX26_of_0 rfl ?_
  refine xr_lload_n 2 F dX26_of_1 rfl ?_
  refine xr_ladd F dX26_of_2 ?_
  exact xr_lret F dX26_of_3
theorem fX27_of_m {l : Launch} {D : xD} {s0 : State} {b0 : Nat} {Γ : Nat → Option Nat} (G : xG l D s0 b0 Γ) (a0 : Nat) (p0 : Int64) (p1 : Int64) : xMeth l D s0 Γ yX27_of (Cond.code yX27_of cX27_of 5 (some .long)) (1) (12) [.ref a0, .long p0, .long p1] xeJ (fX27_of a0 p0 p1) := by
  refine xMeth.of (lv0 := [(0, va_rf (some a0)), (1, .long p0), (3, .long p1)]) G (by decide +kernel) (Or.inl rfl) (Nat.le_of_ble_eq_true rfl) rfl (fun x F hnL hRm hmn ht e1 e2 e3 e4 => ?_)
  have hno : ∀ pc, xNo x pc := fun pc z hz => by rw [ht.1 rfl] at hz; cases hz
  unfold fX27_of
  refine xr_lload_n 1 F dX27_of_0 rfl ?_
  refine xr_lload_n 2 F dX27_of_1 rfl ?_
  refine xr_lsub F dX27_of_2 ?_
  exact xr_lret F dX27_of_3
theorem fX28_of_m {l : Launch} {D : xD} {s0 : State} {b0 : Nat} {Γ : Nat → Option Nat} (G : xG l D s0 b0 Γ) (a0 : Nat) (p0 : Int64) (p1 : Int64) : xMeth l D s0 Γ yX28_of (Cond.code yX28_of cX28_of 5 (some .long)) (1) (12) [.ref a0, .long p0, .long p1] xeJ (fX28_of a0 p0 p1) := by
  refine xMeth.of (lv0 := [(0, va_rf (some a0)), (1, .long p0), (3, .long p1)]) G (by decide +kernel) (Or.inl rfl) (Nat.le_of_ble_eq_true rfl) rfl (fun x F hnL hRm hmn ht e1 e2 e3 e4 => ?_)
  have hno : ∀ pc, xNo x pc := fun pc z hz => by rw [ht.1 rfl] at hz; cases hz
  unfold fX28_of
  refine xr_lload_n 1 F dX28_of_0 rfl ?_
  refine xr_lload_n 2 F dX28_of_1 rfl ?_
  refine xr_lmul F dX28_of_2 ?_
  exact xr_lret F dX28_of_3
theorem fJ3_init_4__X14_p41_ok {x : xC} (F : xF x RJ3 cJ3_init_4 none) (hnL : xnL x = 5) (hRm : ∃ dc ds, x.2.2.2.1 = { frames := 1, cells := dc, slots := ds, locals := 20 }) (hno : ∀ pc, xNo x pc) (hmn : xmn x = "<init>" ∧ xmy x yJ3_init_4) (l0 : Nat) (l1 : Option Nat) (l2 : Option Nat) (l3 : Int32) : xI x xeV 41 [(0, va_rf (some l0)), (1, va_rf l1), (2, va_rf l2), (3, .int l3)] [] (fJ3_init_4__X14_p41 l0 l1 l2 l3) := by
  unfold fJ3_init_4__X14_p41
  refine xr_aload_n 0 (r := (some l0)) F dJ3_init_4_41 rfl ?_
  refine xr_aload_n 1 (r := l1) F dJ3_init_4_42 rfl ?_
  refine xr_put (r := (some l0)) (ref := "java/lang/Throwable") F dJ3_init_4_43 xk_29 (by decide) (Or.inl q504) (Or.inl rfl) (Or.inl rfl) (xr_rf _ _) ?_
  refine xr_aload_n 0 (r := (some l0)) F dJ3_init_4_46 rfl ?_
  refine xr_aload_n 2 (r := l2) F dJ3_init_4_47 rfl ?_
  refine xr_put (r := (some l0)) (ref := "java/lang/Throwable") F dJ3_init_4_48 xk_29 (by decide) (Or.inl q505) (Or.inl rfl) (Or.inl rfl) (xr_rf _ _) ?_
  refine xr_iload_n 3 F dJ3_init_4_51 rfl ?_
  refine xr_if_ne 60 F dJ3_init_4_52 rfl ?_ ?_
  · refine xr_aload_n 0 (r := (some l0)) F dJ3_init_4_55 rfl ?_
    refine xr_null F dJ3_init_4_56 ?_
    refine xr_put (r := (some l0)) (ref := "java/lang/Throwable") F dJ3_init_4_57 xk_29 (by decide) (Or.inl q507) (Or.inl rfl) (Or.inl rfl) (xr_rf _ _) ?_
    exact xr_vret F dJ3_init_4_60
  · exact xr_vret F dJ3_init_4_60
theorem fJ3_init_4__X14_m {l : Launch} {D : xD} {s0 : State} {b0 : Nat} {Γ : Nat → Option Nat} (G : xG l D s0 b0 Γ) (a0 : Nat) (p0 : Option Nat) (p1 : Option Nat) (p2 : Int32) (p3 : Int32) : xMeth l D s0 Γ yJ3_init_4 (Cond.code yJ3_init_4 cJ3_init_4 5 none) (1) (20) [.ref a0, va_rf p0, va_rf p1, .int p2, .int p3] xeV (fJ3_init_4__X14 a0 p0 p1 p2 p3) := by
  refine xMeth.of (lv0 := [(0, va_rf (some a0)), (1, va_rf p0), (2, va_rf p1), (3, .int p2), (4, .int p3)]) G (by decide +kernel) (Or.inl rfl) (by simp [lg_sl, xrf_cat, xct_i, xct_l, xct_d, xct_r]) (by simp [lv_args, xrf_cat, xct_i, xct_l, xct_d, xct_r, xrf_some]) (fun x F hnL hRm hmn ht e1 e2 e3 e4 => ?_)
  have hno : ∀ pc, xNo x pc := fun pc z hz => by rw [ht.1 rfl] at hz; cases hz
  unfold fJ3_init_4__X14
  refine xr_aload_n 0 (r := (some a0)) F dJ3_init_4_0 rfl ?_
  refine xr_obj F dJ3_init_4_1 q249 q200 (q_objcode) (xroom hRm (Nat.le_of_ble_eq_true rfl) (Nat.le_of_ble_eq_true rfl)) (xcat (Nat.le_of_ble_eq_true rfl)) ?_
  refine xr_aload_n 0 (r := (some a0)) F dJ3_init_4_4 rfl ?_
  refine xr_aload_n 0 (r := (some a0)) F dJ3_init_4_5 rfl ?_
  refine xr_put (r := (some a0)) (ref := "java/lang/Throwable") F dJ3_init_4_6 xk_29 (by decide) (Or.inl q505) (Or.inl rfl) (Or.inl rfl) (xr_rf _ _) ?_
  refine xr_aload_n 0 (r := (some a0)) F dJ3_init_4_9 rfl ?_
  refine xr_gs (k := 18) F dJ3_init_4_10 rfl q250 (fun v10 => ?_)
  refine xr_put (r := (some a0)) (ref := "java/lang/Throwable") F dJ3_init_4_13 xk_29 (by decide) (Or.inl q506) (Or.inl rfl) (Or.inl rfl) (xr_rfa _ _) ?_
  refine xr_aload_n 0 (r := (some a0)) F dJ3_init_4_16 rfl ?_
  refine xr_gs (k := 19) F dJ3_init_4_17 rfl q252 (fun v17 => ?_)
  refine xr_put (r := (some a0)) (ref := "java/lang/Throwable") F dJ3_init_4_20 xk_29 (by decide) (Or.inl q507) (Or.inl rfl) (Or.inl rfl) (xr_rf _ _) ?_
  refine xr_iload 4 F dJ3_init_4_23 rfl ?_
  refine xr_if_eq 36 F dJ3_init_4_25 rfl ?_ ?_
  · refine xr_aload_n 0 (r := (some a0)) F dJ3_init_4_36 rfl ?_
    refine xr_null F dJ3_init_4_37 ?_
    refine xr_put (r := (some a0)) (ref := "java/lang/Throwable") F dJ3_init_4_38 xk_29 (by decide) (Or.inl q506) (Or.inl rfl) (Or.inl rfl) (xr_rfa _ _) ?_
    exact xI.sub [0, 1, 2, 3] rfl (fJ3_init_4__X14_p41_ok F hnL hRm hno hmn a0 p0 p1 p2)
  · refine xr_aload_n 0 (r := (some a0)) F dJ3_init_4_28 rfl ?_
    exact xI.stuck
theorem fJ4_init_4__X14_m {l : Launch} {D : xD} {s0 : State} {b0 : Nat} {Γ : Nat → Option Nat} (G : xG l D s0 b0 Γ) (a0 : Nat) (p0 : Option Nat) (p1 : Option Nat) (p2 : Int32) (p3 : Int32) : xMeth l D s0 Γ yJ4_init_4 (Cond.code yJ4_init_4 cJ4_init_4 5 none) (2) (44) [.ref a0, va_rf p0, va_rf p1, .int p2, .int p3] xeV (fJ4_init_4__X14 a0 p0 p1 p2 p3) := by
  refine xMeth.of (lv0 := [(0, va_rf (some a0)), (1, va_rf p0), (2, va_rf p1), (3, .int p2), (4, .int p3)]) G (by decide +kernel) (Or.inl rfl) (by simp [lg_sl, xrf_cat, xct_i, xct_l, xct_d, xct_r]) (by simp [lv_args, xrf_cat, xct_i, xct_l, xct_d, xct_r, xrf_some]) (fun x F hnL hRm hmn ht e1 e2 e3 e4 => ?_)
  have hno : ∀ pc, xNo x pc := fun pc z hz => by rw [ht.1 rfl] at hz; cases hz
  unfold fJ4_init_4__X14
  refine xr_aload_n 0 (r := (some a0)) F dJ4_init_4_0 rfl ?_
  refine xr_aload_n 1 (r := p0) F dJ4_init_4_1 rfl ?_
  refine xr_aload_n 2 (r := p1) F dJ4_init_4_2 rfl ?_
  refine xr_iload_n 3 F dJ4_init_4_3 rfl ?_
  refine xr_iload 4 F dJ4_init_4_4 rfl ?_
  refine xr_IV (y := yJ3_init_4) (As := [va_rf p0, va_rf p1, .int p2, .int p3]) F (hno _) dJ4_init_4_6 (fJ3_init_4__X14_m (xFG F) a0 p0 p1 p2 p3) rfl rfl q1828 (Or.inl q1826) q1827 (xroom hRm (Nat.le_of_ble_eq_true rfl) (Nat.le_of_ble_eq_true rfl)) ⟨by decide, by decide⟩ n_J3_init_4 rfl (xcat (Nat.le_of_ble_eq_true rfl)) (fun _ => ?_)
  exact xr_vret F dJ4_init_4_9
theorem fX14_init_m {l : Launch} {D : xD} {s0 : State} {b0 : Nat} {Γ : Nat → Option Nat} (G : xG l D s0 b0 Γ) (a0 : Nat) : xMeth l D s0 Γ yX14_init (Cond.code yX14_init cX14_init 1 none) (3) (68) [.ref a0] xeV (fX14_init a0) := by
  refine xMeth.of (lv0 := [(0, va_rf (some a0))]) G (by decide +kernel) (Or.inl rfl) (Nat.le_of_ble_eq_true rfl) rfl (fun x F hnL hRm hmn ht e1 e2 e3 e4 => ?_)
  have hno : ∀ pc, xNo x pc := fun pc z hz => by rw [ht.1 rfl] at hz; cases hz
  unfold fX14_init
  refine xr_aload_n 0 (r := (some a0)) F dX14_init_0 rfl ?_
  refine xr_null F dX14_init_1 ?_
  refine xr_null F dX14_init_2 ?_
  refine xr_iconst (0 : Int32) F dX14_init_3 rfl ?_
  refine xr_iconst (0 : Int32) F dX14_init_4 rfl ?_
  refine xr_IV (y := yJ4_init_4) (As := [va_rf none, va_rf none, .int (0 : Int32), .int (0 : Int32)]) F (hno _) dX14_init_5 (fJ4_init_4__X14_m (xFG F) a0 none none (0 : Int32) (0 : Int32)) rfl rfl q1825 (Or.inl q2416) q1824 (xroom hRm (Nat.le_of_ble_eq_true rfl) (Nat.le_of_ble_eq_true rfl)) ⟨by decide, by decide⟩ n_J4_init_4 rfl (xcat (Nat.le_of_ble_eq_true rfl)) (fun _ => ?_)
  exact xr_vret F dX14_init_8
theorem fX29_of_m {l : Launch} {D : xD} {s0 : State} {b0 : Nat} {Γ : Nat → Option Nat} (G : xG l D s0 b0 Γ) (a0 : Nat) (p0 : Int64) (p1 : Int64) : xMeth l D s0 Γ yX29_of (Cond.code yX29_of cX29_of 5 (some .long)) (4) (88) [.ref a0, .long p0, .long p1] xeJ (fX29_of a0 p0 p1) := by
  refine xMeth.of (lv0 := [(0, va_rf (some a0)), (1, .long p0), (3, .long p1)]) G (by decide +kernel) (Or.inl rfl) (Nat.le_of_ble_eq_true rfl) rfl (fun x F hnL hRm hmn ht e1 e2 e3 e4 => ?_)
  have hno : ∀ pc, xNo x pc := fun pc z hz => by rw [ht.1 rfl] at hz; cases hz
  unfold fX29_of
  refine xr_lload_n 2 F dX29_of_0 rfl ?_
  refine xr_lconst 0 F dX29_of_1 rfl ?_
  refine xr_lcmp F dX29_of_2 ?_
  refine xr_if_ne 14 F dX29_of_3 rfl ?_ ?_
  · refine xr_new F dX29_of_6 xk_29 xdf_29 q2404 q2405 q170 (fun v6 => ?_)
    refine xr_dup F dX29_of_9 (xrf_cat _) ?_
    refine xr_IV (y := yX14_init) (As := []) F (hno _) dX29_of_10 (fX14_init_m (xFG F) v6) rfl rfl q2415 (Or.inl q2413) q2414 (xroom hRm (Nat.le_of_ble_eq_true rfl) (Nat.le_of_ble_eq_true rfl)) ⟨by decide, by decide⟩ n_X14_init rfl (xcat (Nat.le_of_ble_eq_true rfl)) (fun _ => ?_)
    exact xr_throw (r := (some v6)) F dX29_of_13 (hno _)
  · refine xr_lload_n 1 F dX29_of_14 rfl ?_
    refine xr_lload_n 2 F dX29_of_15 rfl ?_
    refine xr_ldiv F dX29_of_16 ?_
    exact xr_lret F dX29_of_17
theorem fX30_of_m {l : Launch} {D : xD} {s0 : State} {b0 : Nat} {Γ : Nat → Option Nat} (G : xG l D s0 b0 Γ) (a0 : Nat) (p0 : Int64) (p1 : Int64) : xMeth l D s0 Γ yX30_of (Cond.code yX30_of cX30_of 5 (some .long)) (2) (35) [.ref a0, .long p0, .long p1] xeJ (fX30_of a0 p0 p1) := by
  refine xMeth.of (lv0 := [(0, va_rf (some a0)), (1, .long p0), (3, .long p1)]) G (by decide +kernel) (Or.inl rfl) (Nat.le_of_ble_eq_true rfl) rfl (fun x F hnL hRm hmn ht e1 e2 e3 e4 => ?_)
  have hno : ∀ pc, xNo x pc := fun pc z hz => by rw [ht.1 rfl] at hz; cases hz
  unfold fX30_of
  refine xr_lload_n 1 F dX30_of_0 rfl ?_
  refine xr_lload_n 2 F dX30_of_1 rfl ?_
  refine xr_SJ (y := yJ12_min_2) (As := [.long p0, .long p1]) F (hno _) dX30_of_2 (fJ12_min_2_m (xFG F) p0 p1) (Or.inl rfl) q2424 q135 (Or.inl q2422) q2423 (xroom hRm (Nat.le_of_ble_eq_true rfl) (Nat.le_of_ble_eq_true rfl)) ⟨by decide, by decide⟩ n_J12_min_2 rfl (xcat (Nat.le_of_ble_eq_true rfl)) (fun v2 => ?_)
  exact xr_lret F dX30_of_5
theorem fX31_of_m {l : Launch} {D : xD} {s0 : State} {b0 : Nat} {Γ : Nat → Option Nat} (G : xG l D s0 b0 Γ) (a0 : Nat) (p0 : Int64) (p1 : Int64) : xMeth l D s0 Γ yX31_of (Cond.code yX31_of cX31_of 5 (some .long)) (2) (35) [.ref a0, .long p0, .long p1] xeJ (fX31_of a0 p0 p1) := by
  refine xMeth.of (lv0 := [(0, va_rf (some a0)), (1, .long p0), (3, .long p1)]) G (by decide +kernel) (Or.inl rfl) (Nat.le_of_ble_eq_true rfl) rfl (fun x F hnL hRm hmn ht e1 e2 e3 e4 => ?_)
  have hno : ∀ pc, xNo x pc := fun pc z hz => by rw [ht.1 rfl] at hz; cases hz
  unfold fX31_of
  refine xr_lload_n 1 F dX31_of_0 rfl ?_
  refine xr_lload_n 2 F dX31_of_1 rfl ?_
  refine xr_SJ (y := yJ12_max_2) (As := [.long p0, .long p1]) F (hno _) dX31_of_2 (fJ12_max_2_m (xFG F) p0 p1) (Or.inl rfl) q2430 q135 (Or.inl q2428) q2429 (xroom hRm (Nat.le_of_ble_eq_true rfl) (Nat.le_of_ble_eq_true rfl)) ⟨by decide, by decide⟩ n_J12_max_2 rfl (xcat (Nat.le_of_ble_eq_true rfl)) (fun v2 => ?_)
  exact xr_lret F dX31_of_5
theorem fX12_value_b_m {l : Launch} {D : xD} {s0 : State} {b0 : Nat} {Γ : Nat → Option Nat} (G : xG l D s0 b0 Γ) {S : Nat → Option Nat → xM (Int64)} {frS loS : Nat} (hS : ∀ (b0_ : Nat) (b1_ : Option Nat), xMeth l D s0 Γ yX12_value (Cond.code yX12_value cX12_value 4 (some .long)) frS loS [.ref b0_, va_rf b1_] xeJ (S b0_ b1_)) (a0 : Nat) (p0 : Option Nat) : xMeth l D s0 Γ yX12_value (Cond.code yX12_value cX12_value 4 (some .long)) (frS + 5) (loS + 112) [.ref a0, va_rf p0] xeJ (fX12_value_b S a0 p0) := by
  refine xMeth.of (lv0 := [(0, va_rf (some a0)), (1, va_rf p0)]) G (by decide +kernel) (Or.inl rfl) (by simp [lg_sl, xrf_cat, xct_i, xct_l, xct_d, xct_r]) (by simp [lv_args, xrf_cat, xct_i, xct_l, xct_d, xct_r, xrf_some]) (fun x F hnL hRm hmn ht e1 e2 e3 e4 => ?_)
  have hno : ∀ pc, xNo x pc := fun pc z hz => by rw [ht.1 rfl] at hz; cases hz
  have hS : ∀ (b0_ : Nat) (b1_ : Option Nat), xMx x yX12_value (Cond.code yX12_value cX12_value 4 (some .long)) frS loS [.ref b0_, va_rf b1_] xeJ (S b0_ b1_) := by
    intro b0_ b1_
    unfold xMx
    rw [e1, e2, e3, e4]
    exact hS b0_ b1_
  unfold fX12_value_b
  refine xr_aload_n 0 (r := (some a0)) F dX12_value_0 rfl ?_
  refine xr_gR (r := (some a0)) (ref := "ReserveLedger$Pair") F dX12_value_1 (C := RX12) (T := TX12) (N := 3) rfl (by decide) (Or.inl q2289) (Or.inl rfl) (fun v1 => ?_)
  refine xr_aload_n 0 (r := (some a0)) F dX12_value_4 rfl ?_
  refine xr_gR (r := (some a0)) (ref := "ReserveLedger$Pair") F dX12_value_5 (C := RX12) (T := TX12) (N := 3) rfl (by decide) (Or.inl q2290) (Or.inl rfl) (fun v5 => ?_)
  refine xr_aload_n 1 (r := p0) F dX12_value_8 rfl ?_
  refine xI.alt2 (Kp := ∀ (v9 : Int64), xI x xeJ 14 [(0, va_rf (some a0)), (1, va_rf p0)] [.long v9, va_rf v1] _) ?_ (fun hK => xr_FJ (x0 := ⟨"ReserveLedger$Node", "value", "(LReserveLedger$Facts;)J"⟩) (y := yX8_value) (As := [va_rf p0]) (r := v5) F (hno _) dX12_value_9 (fun z => fX8_value_m (xFG F) z p0) rfl (ci := 21) (C := RX8) (T := TX8) rfl q2359 q2388 q2357 q2355 q2353 q2352 q2358 q2356 q2354 (xroom hRm (by omega) (by omega)) ⟨by decide, by decide⟩ n_X8_value rfl (xcat (Nat.le_of_ble_eq_true rfl)) hK) (fun hK => (xI.alt2 hK (fun hK => xr_FJ (x0 := ⟨"ReserveLedger$Node", "value", "(LReserveLedger$Facts;)J"⟩) (y := yX11_value) (As := [va_rf p0]) (r := v5) F (hno _) dX12_value_9 (fun z => fX11_value_m (xFG F) z p0) rfl (ci := 26) (C := RX11) (T := TX11) rfl q2365 q2388 q2363 q2361 q2353 q2352 q2364 q2362 q2360 (xroom hRm (by omega) (by omega)) ⟨by decide, by decide⟩ n_X11_value rfl (xcat (Nat.le_of_ble_eq_true rfl)) hK) (fun hK => (xr_FJ (x0 := ⟨"ReserveLedger$Node", "value", "(LReserveLedger$Facts;)J"⟩) (y := yX12_value) (As := [va_rf p0]) (r := v5) F (hno _) dX12_value_9 (fun z => hS z p0) rfl (ci := 27) (C := RX12) (T := TX12) rfl q2386 q2388 q2384 q2382 q2353 q2352 q2385 q2383 q2381 (xroom hRm (by omega) (by omega)) ⟨by decide, by decide⟩ n_X12_value rfl (xcat (Nat.le_of_ble_eq_true rfl)) hK))))
  intro v9
  refine xr_aload_n 0 (r := (some a0)) F dX12_value_14 rfl ?_
  refine xr_gR (r := (some a0)) (ref := "ReserveLedger$Pair") F dX12_value_15 (C := RX12) (T := TX12) (N := 3) rfl (by decide) (Or.inl q2291) (Or.inl rfl) (fun v15 => ?_)
  refine xr_aload_n 1 (r := p0) F dX12_value_18 rfl ?_
  refine xI.alt2 (Kp := ∀ (v19 : Int64), xI x xeJ 24 [(0, va_rf (some a0)), (1, va_rf p0)] [.long v19, .long v9, va_rf v1] _) ?_ (fun hK => xr_FJ (x0 := ⟨"ReserveLedger$Node", "value", "(LReserveLedger$Facts;)J"⟩) (y := yX8_value) (As := [va_rf p0]) (r := v15) F (hno _) dX12_value_19 (fun z => fX8_value_m (xFG F) z p0) rfl (ci := 21) (C := RX8) (T := TX8) rfl q2359 q2388 q2357 q2355 q2353 q2352 q2358 q2356 q2354 (xroom hRm (by omega) (by omega)) ⟨by decide, by decide⟩ n_X8_value rfl (xcat (Nat.le_of_ble_eq_true rfl)) hK) (fun hK => (xI.alt2 hK (fun hK => xr_FJ (x0 := ⟨"ReserveLedger$Node", "value", "(LReserveLedger$Facts;)J"⟩) (y := yX11_value) (As := [va_rf p0]) (r := v15) F (hno _) dX12_value_19 (fun z => fX11_value_m (xFG F) z p0) rfl (ci := 26) (C := RX11) (T := TX11) rfl q2365 q2388 q2363 q2361 q2353 q2352 q2364 q2362 q2360 (xroom hRm (by omega) (by omega)) ⟨by decide, by decide⟩ n_X11_value rfl (xcat (Nat.le_of_ble_eq_true rfl)) hK) (fun hK => (xr_FJ (x0 := ⟨"ReserveLedger$Node", "value", "(LReserveLedger$Facts;)J"⟩) (y := yX12_value) (As := [va_rf p0]) (r := v15) F (hno _) dX12_value_19 (fun z => hS z p0) rfl (ci := 27) (C := RX12) (T := TX12) rfl q2386 q2388 q2384 q2382 q2353 q2352 q2385 q2383 q2381 (xroom hRm (by omega) (by omega)) ⟨by decide, by decide⟩ n_X12_value rfl (xcat (Nat.le_of_ble_eq_true rfl)) hK))))
  intro v19
  refine xI.alt2 (Kp := ∀ (v24 : Int64), xI x xeJ 27 [(0, va_rf (some a0)), (1, va_rf p0)] [.long v24] _) ?_ (fun hK => xr_UJ (x0 := ⟨"ReserveLedger$Sign", "of", "(JJ)J"⟩) (y := yX26_of) (As := [.long v9, .long v19]) (r := v1) F (hno _) dX12_value_24 (fun z => fX26_of_m (xFG F) z v9 v19) rfl (ci := 44) (C := RX26) (T := TX26) rfl q2394 q2389 q2393 q2392 q2391 (Or.inr q2390) (xroom hRm (by omega) (by omega)) ⟨by decide, by decide⟩ n_X26_of rfl (xcat (Nat.le_of_ble_eq_true rfl)) hK) (fun hK => (xI.alt2 hK (fun hK => xr_UJ (x0 := ⟨"ReserveLedger$Sign", "of", "(JJ)J"⟩) (y := yX27_of) (As := [.long v9, .long v19]) (r := v1) F (hno _) dX12_value_24 (fun z => fX27_of_m (xFG F) z v9 v19) rfl (ci := 45) (C := RX27) (T := TX27) rfl q2397 q2389 q2396 q2395 q2391 (Or.inr q2390) (xroom hRm (by omega) (by omega)) ⟨by decide, by decide⟩ n_X27_of rfl (xcat (Nat.le_of_ble_eq_true rfl)) hK) (fun hK => (xI.alt2 hK (fun hK => xr_UJ (x0 := ⟨"ReserveLedger$Sign", "of", "(JJ)J"⟩) (y := yX28_of) (As := [.long v9, .long v19]) (r := v1) F (hno _) dX12_value_24 (fun z => fX28_of_m (xFG F) z v9 v19) rfl (ci := 46) (C := RX28) (T := TX28) rfl q2400 q2389 q2399 q2398 q2391 (Or.inr q2390) (xroom hRm (by omega) (by omega)) ⟨by decide, by decide⟩ n_X28_of rfl (xcat (Nat.le_of_ble_eq_true rfl)) hK) (fun hK => (xI.alt2 hK (fun hK => xr_UJ (x0 := ⟨"ReserveLedger$Sign", "of", "(JJ)J"⟩) (y := yX29_of) (As := [.long v9, .long v19]) (r := v1) F (hno _) dX12_value_24 (fun z => fX29_of_m (xFG F) z v9 v19) rfl (ci := 47) (C := RX29) (T := TX29) rfl q2403 q2389 q2402 q2401 q2391 (Or.inr q2390) (xroom hRm (by omega) (by omega)) ⟨by decide, by decide⟩ n_X29_of rfl (xcat (Nat.le_of_ble_eq_true rfl)) hK) (fun hK => (xI.alt2 hK (fun hK => xr_UJ (x0 := ⟨"ReserveLedger$Sign", "of", "(JJ)J"⟩) (y := yX30_of) (As := [.long v9, .long v19]) (r := v1) F (hno _) dX12_value_24 (fun z => fX30_of_m (xFG F) z v9 v19) rfl (ci := 48) (C := RX30) (T := TX30) rfl q2421 q2389 q2420 q2419 q2391 (Or.inr q2390) (xroom hRm (by omega) (by omega)) ⟨by decide, by decide⟩ n_X30_of rfl (xcat (Nat.le_of_ble_eq_true rfl)) hK) (fun hK => (xr_UJ (x0 := ⟨"ReserveLedger$Sign", "of", "(JJ)J"⟩) (y := yX31_of) (As := [.long v9, .long v19]) (r := v1) F (hno _) dX12_value_24 (fun z => fX31_of_m (xFG F) z v9 v19) rfl (ci := 49) (C := RX31) (T := TX31) rfl q2427 q2389 q2426 q2425 q2391 (Or.inr q2390) (xroom hRm (by omega) (by omega)) ⟨by decide, by decide⟩ n_X31_of rfl (xcat (Nat.le_of_ble_eq_true rfl)) hK))))))))))
  intro v24
  refine xs_l_n [] F dX12_value_27 hnL rfl rfl xk0 xk20 ?_
  refine xr_ldc2 F dX12_value_28 q2431 ?_
  refine xr_ldc2 F dX12_value_31 q2432 ?_
  refine xr_lload_n 0 F dX12_value_34 rfl ?_
  refine xr_SJ (y := yJ12_min_2) (As := [.long (1000000000 : Int64), .long v24]) F (hno _) dX12_value_35 (fJ12_min_2_m (xFG F) (1000000000 : Int64) v24) (Or.inl rfl) q2424 q135 (Or.inl q2433) q2423 (xroom hRm (by omega) (by omega)) ⟨by decide, by decide⟩ n_J12_min_2 rfl (xcat (Nat.le_of_ble_eq_true rfl)) (fun v35 => ?_)
  refine xr_SJ (y := yJ12_max_2) (As := [.long (-1000000000 : Int64), .long v35]) F (hno _) dX12_value_38 (fJ12_max_2_m (xFG F) (-1000000000 : Int64) v35) (Or.inl rfl) q2430 q135 (Or.inl q2434) q2429 (xroom hRm (by omega) (by omega)) ⟨by decide, by decide⟩ n_J12_max_2 rfl (xcat (Nat.le_of_ble_eq_true rfl)) (fun v38 => ?_)
  exact xr_lret F dX12_value_41
theorem fX12_value_m {l : Launch} {D : xD} {s0 : State} {b0 : Nat} {Γ : Nat → Option Nat} (G : xG l D s0 b0 Γ) : ∀ (d : Nat) (a0 : Nat) (p0 : Option Nat), xMeth l D s0 Γ yX12_value (Cond.code yX12_value cX12_value 4 (some .long)) (5 * d + 1) (112 * d + 12) [.ref a0, va_rf p0] xeJ (fX12_value d a0 p0) := by
  intro d
  induction d with
  | zero => intro a0 p0 h n o h2 dc ds he; cases he
  | succ d ih =>
    intro a0 p0
    have e1 : 5 * (d + 1) + 1 = (5 * d + 1) + 5 := by omega
    have e2 : 112 * (d + 1) + 12 = (112 * d + 12) + 112 := by omega
    rw [e1, e2]
    exact fX12_value_b_m G ih a0 p0
theorem fJ3_init_4__X15_p41_ok {x : xC} (F : xF x RJ3 cJ3_init_4 none) (hnL : xnL x = 5) (hRm : ∃ dc ds, x.2.2.2.1 = { frames := 1, cells := dc, slots := ds, locals := 20 }) (hno : ∀ pc, xNo x pc) (hmn : xmn x = "<init>" ∧ xmy x yJ3_init_4) (l0 : Nat) (l1 : Option Nat) (l2 : Option Nat) (l3 : Int32) : xI x xeV 41 [(0, va_rf (some l0)), (1, va_rf l1), (2, va_rf l2), (3, .int l3)] [] (fJ3_init_4__X15_p41 l0 l1 l2 l3) := by
  unfold fJ3_init_4__X15_p41
  refine xr_aload_n 0 (r := (some l0)) F dJ3_init_4_41 rfl ?_
  refine xr_aload_n 1 (r := l1) F dJ3_init_4_42 rfl ?_
  refine xr_put (r := (some l0)) (ref := "java/lang/Throwable") F dJ3_init_4_43 xk_30 (by decide) (Or.inl q504) (Or.inl rfl) (Or.inl rfl) (xr_rf _ _) ?_
  refine xr_aload_n 0 (r := (some l0)) F dJ3_init_4_46 rfl ?_
  refine xr_aload_n 2 (r := l2) F dJ3_init_4_47 rfl ?_
  refine xr_put (r := (some l0)) (ref := "java/lang/Throwable") F dJ3_init_4_48 xk_30 (by decide) (Or.inl q505) (Or.inl rfl) (Or.inl rfl) (xr_rf _ _) ?_
  refine xr_iload_n 3 F dJ3_init_4_51 rfl ?_
  refine xr_if_ne 60 F dJ3_init_4_52 rfl ?_ ?_
  · refine xr_aload_n 0 (r := (some l0)) F dJ3_init_4_55 rfl ?_
    refine xr_null F dJ3_init_4_56 ?_
    refine xr_put (r := (some l0)) (ref := "java/lang/Throwable") F dJ3_init_4_57 xk_30 (by decide) (Or.inl q507) (Or.inl rfl) (Or.inl rfl) (xr_rf _ _) ?_
    exact xr_vret F dJ3_init_4_60
  · exact xr_vret F dJ3_init_4_60
theorem fJ3_init_4__X15_m {l : Launch} {D : xD} {s0 : State} {b0 : Nat} {Γ : Nat → Option Nat} (G : xG l D s0 b0 Γ) (a0 : Nat) (p0 : Option Nat) (p1 : Option Nat) (p2 : Int32) (p3 : Int32) : xMeth l D s0 Γ yJ3_init_4 (Cond.code yJ3_init_4 cJ3_init_4 5 none) (1) (20) [.ref a0, va_rf p0, va_rf p1, .int p2, .int p3] xeV (fJ3_init_4__X15 a0 p0 p1 p2 p3) := by
  refine xMeth.of (lv0 := [(0, va_rf (some a0)), (1, va_rf p0), (2, va_rf p1), (3, .int p2), (4, .int p3)]) G (by decide +kernel) (Or.inl rfl) (by simp [lg_sl, xrf_cat, xct_i, xct_l, xct_d, xct_r]) (by simp [lv_args, xrf_cat, xct_i, xct_l, xct_d, xct_r, xrf_some]) (fun x F hnL hRm hmn ht e1 e2 e3 e4 => ?_)
  have hno : ∀ pc, xNo x pc := fun pc z hz => by rw [ht.1 rfl] at hz; cases hz
  unfold fJ3_init_4__X15
  refine xr_aload_n 0 (r := (some a0)) F dJ3_init_4_0 rfl ?_
  refine xr_obj F dJ3_init_4_1 q249 q200 (q_objcode) (xroom hRm (Nat.le_of_ble_eq_true rfl) (Nat.le_of_ble_eq_true rfl)) (xcat (Nat.le_of_ble_eq_true rfl)) ?_
  refine xr_aload_n 0 (r := (some a0)) F dJ3_init_4_4 rfl ?_
  refine xr_aload_n 0 (r := (some a0)) F dJ3_init_4_5 rfl ?_
  refine xr_put (r := (some a0)) (ref := "java/lang/Throwable") F dJ3_init_4_6 xk_30 (by decide) (Or.inl q505) (Or.inl rfl) (Or.inl rfl) (xr_rf _ _) ?_
  refine xr_aload_n 0 (r := (some a0)) F dJ3_init_4_9 rfl ?_
  refine xr_gs (k := 18) F dJ3_init_4_10 rfl q250 (fun v10 => ?_)
  refine xr_put (r := (some a0)) (ref := "java/lang/Throwable") F dJ3_init_4_13 xk_30 (by decide) (Or.inl q506) (Or.inl rfl) (Or.inl rfl) (xr_rfa _ _) ?_
  refine xr_aload_n 0 (r := (some a0)) F dJ3_init_4_16 rfl ?_
  refine xr_gs (k := 19) F dJ3_init_4_17 rfl q252 (fun v17 => ?_)
  refine xr_put (r := (some a0)) (ref := "java/lang/Throwable") F dJ3_init_4_20 xk_30 (by decide) (Or.inl q507) (Or.inl rfl) (Or.inl rfl) (xr_rf _ _) ?_
  refine xr_iload 4 F dJ3_init_4_23 rfl ?_
  refine xr_if_eq 36 F dJ3_init_4_25 rfl ?_ ?_
  · refine xr_aload_n 0 (r := (some a0)) F dJ3_init_4_36 rfl ?_
    refine xr_null F dJ3_init_4_37 ?_
    refine xr_put (r := (some a0)) (ref := "java/lang/Throwable") F dJ3_init_4_38 xk_30 (by decide) (Or.inl q506) (Or.inl rfl) (Or.inl rfl) (xr_rfa _ _) ?_
    exact xI.sub [0, 1, 2, 3] rfl (fJ3_init_4__X15_p41_ok F hnL hRm hno hmn a0 p0 p1 p2)
  · refine xr_aload_n 0 (r := (some a0)) F dJ3_init_4_28 rfl ?_
    exact xI.stuck
theorem fJ4_init_4__X15_m {l : Launch} {D : xD} {s0 : State} {b0 : Nat} {Γ : Nat → Option Nat} (G : xG l D s0 b0 Γ) (a0 : Nat) (p0 : Option Nat) (p1 : Option Nat) (p2 : Int32) (p3 : Int32) : xMeth l D s0 Γ yJ4_init_4 (Cond.code yJ4_init_4 cJ4_init_4 5 none) (2) (44) [.ref a0, va_rf p0, va_rf p1, .int p2, .int p3] xeV (fJ4_init_4__X15 a0 p0 p1 p2 p3) := by
  refine xMeth.of (lv0 := [(0, va_rf (some a0)), (1, va_rf p0), (2, va_rf p1), (3, .int p2), (4, .int p3)]) G (by decide +kernel) (Or.inl rfl) (by simp [lg_sl, xrf_cat, xct_i, xct_l, xct_d, xct_r]) (by simp [lv_args, xrf_cat, xct_i, xct_l, xct_d, xct_r, xrf_some]) (fun x F hnL hRm hmn ht e1 e2 e3 e4 => ?_)
  have hno : ∀ pc, xNo x pc := fun pc z hz => by rw [ht.1 rfl] at hz; cases hz
  unfold fJ4_init_4__X15
  refine xr_aload_n 0 (r := (some a0)) F dJ4_init_4_0 rfl ?_
  refine xr_aload_n 1 (r := p0) F dJ4_init_4_1 rfl ?_
  refine xr_aload_n 2 (r := p1) F dJ4_init_4_2 rfl ?_
  refine xr_iload_n 3 F dJ4_init_4_3 rfl ?_
  refine xr_iload 4 F dJ4_init_4_4 rfl ?_
  refine xr_IV (y := yJ3_init_4) (As := [va_rf p0, va_rf p1, .int p2, .int p3]) F (hno _) dJ4_init_4_6 (fJ3_init_4__X15_m (xFG F) a0 p0 p1 p2 p3) rfl rfl q1828 (Or.inl q1826) q1827 (xroom hRm (Nat.le_of_ble_eq_true rfl) (Nat.le_of_ble_eq_true rfl)) ⟨by decide, by decide⟩ n_J3_init_4 rfl (xcat (Nat.le_of_ble_eq_true rfl)) (fun _ => ?_)
  exact xr_vret F dJ4_init_4_9
theorem fX15_init_m {l : Launch} {D : xD} {s0 : State} {b0 : Nat} {Γ : Nat → Option Nat} (G : xG l D s0 b0 Γ) (a0 : Nat) (p0 : Option Nat) : xMeth l D s0 Γ yX15_init (Cond.code yX15_init cX15_init 2 none) (3) (68) [.ref a0, va_rf p0] xeV (fX15_init a0 p0) := by
  refine xMeth.of (lv0 := [(0, va_rf (some a0)), (1, va_rf p0)]) G (by decide +kernel) (Or.inl rfl) (by simp [lg_sl, xrf_cat, xct_i, xct_l, xct_d, xct_r]) (by simp [lv_args, xrf_cat, xct_i, xct_l, xct_d, xct_r, xrf_some]) (fun x F hnL hRm hmn ht e1 e2 e3 e4 => ?_)
  have hno : ∀ pc, xNo x pc := fun pc z hz => by rw [ht.1 rfl] at hz; cases hz
  unfold fX15_init
  refine xr_aload_n 0 (r := (some a0)) F dX15_init_0 rfl ?_
  refine xr_null F dX15_init_1 ?_
  refine xr_aload_n 1 (r := p0) F dX15_init_2 rfl ?_
  refine xr_iconst (0 : Int32) F dX15_init_3 rfl ?_
  refine xr_iconst (0 : Int32) F dX15_init_4 rfl ?_
  refine xr_IV (y := yJ4_init_4) (As := [va_rf none, va_rf p0, .int (0 : Int32), .int (0 : Int32)]) F (hno _) dX15_init_5 (fJ4_init_4__X15_m (xFG F) a0 none p0 (0 : Int32) (0 : Int32)) rfl rfl q1825 (Or.inl q2446) q1824 (xroom hRm (Nat.le_of_ble_eq_true rfl) (Nat.le_of_ble_eq_true rfl)) ⟨by decide, by decide⟩ n_J4_init_4 rfl (xcat (Nat.le_of_ble_eq_true rfl)) (fun _ => ?_)
  exact xr_vret F dX15_init_8
theorem fX6_quotaBy_m {l : Launch} {D : xD} {s0 : State} {b0 : Nat} {Γ : Nat → Option Nat} (G : xG l D s0 b0 Γ) (a0 : Nat) (p0 : Option Nat) : xMeth l D s0 Γ yX6_quotaBy (Cond.codeWith yX6_quotaBy cX6_quotaBy 3 (some .long) [(0, 13, 14, 120)]) (5002) (112035) [.ref a0, va_rf p0] xeJ (fX6_quotaBy a0 p0) := by
  refine xMeth.of (lv0 := [(0, va_rf (some a0)), (1, va_rf p0)]) G (by decide +kernel) (Or.inr ⟨_, rfl⟩) (by simp [lg_sl, xrf_cat, xct_i, xct_l, xct_d, xct_r]) (by simp [lv_args, xrf_cat, xct_i, xct_l, xct_d, xct_r, xrf_some]) (fun x F hnL hRm hmn ht e1 e2 e3 e4 => ?_)
  have htb : x.2.2.2.2.2.2.2.2.2.1.exceptionTable.toList = tableOf [(0, 13, 14, 120)] := ht.2 _ rfl
  unfold fX6_quotaBy
  refine xr_aload_n 0 (r := (some a0)) F dX6_quotaBy_0 rfl ?_
  refine xr_gR (r := (some a0)) (ref := "ReserveLedger$Herd") F dX6_quotaBy_1 (C := RX6) (T := TX6) (N := 8) rfl (by decide) (Or.inl q2036) (Or.inl rfl) (fun v1 => ?_)
  refine xr_gR (r := v1) (ref := "ReserveLedger$Species") F dX6_quotaBy_4 (C := RX7) (T := TX7) (N := 6) rfl (by decide) (Or.inr ⟨_, q1931⟩) (Or.inl rfl) (fun v4 => ?_)
  refine xr_aload_n 1 (r := p0) F dX6_quotaBy_7 rfl ?_
  refine xI.alt2T (Kp := ∀ (v8 : Int64), xI x xeJ 13 [(0, va_rf (some a0)), (1, va_rf p0)] [.long v8] _) ?_ ?_ (fun hK hK2 => xr_FJT (x0 := ⟨"ReserveLedger$Node", "value", "(LReserveLedger$Facts;)J"⟩) (y := yX8_value) (As := [va_rf p0]) (r := v4) F dX6_quotaBy_8 (fun z => fX8_value_m (xFG F) z p0) rfl (ci := 21) (C := RX8) (T := TX8) rfl q2359 q2351 q2357 q2355 q2353 q2352 q2358 q2356 q2354 (xroom hRm (Nat.le_of_ble_eq_true rfl) (Nat.le_of_ble_eq_true rfl)) ⟨by decide, by decide⟩ n_X8_value rfl (xcat (Nat.le_of_ble_eq_true rfl)) hK hK2) (fun hK hK2 => (xI.alt2T hK hK2 (fun hK hK2 => xr_FJT (x0 := ⟨"ReserveLedger$Node", "value", "(LReserveLedger$Facts;)J"⟩) (y := yX11_value) (As := [va_rf p0]) (r := v4) F dX6_quotaBy_8 (fun z => fX11_value_m (xFG F) z p0) rfl (ci := 26) (C := RX11) (T := TX11) rfl q2365 q2351 q2363 q2361 q2353 q2352 q2364 q2362 q2360 (xroom hRm (Nat.le_of_ble_eq_true rfl) (Nat.le_of_ble_eq_true rfl)) ⟨by decide, by decide⟩ n_X11_value rfl (xcat (Nat.le_of_ble_eq_true rfl)) hK hK2) (fun hK hK2 => (xr_FJT (x0 := ⟨"ReserveLedger$Node", "value", "(LReserveLedger$Facts;)J"⟩) (y := yX12_value) (As := [va_rf p0]) (r := v4) F dX6_quotaBy_8 (fun z => fX12_value_m (xFG F) 1000 z p0) rfl (ci := 27) (C := RX12) (T := TX12) rfl q2386 q2351 q2384 q2382 q2353 q2352 q2385 q2383 q2381 (xroom hRm (Nat.le_of_ble_eq_true rfl) (Nat.le_of_ble_eq_true rfl)) ⟨by decide, by decide⟩ n_X12_value rfl (xcat (Nat.le_of_ble_eq_true rfl)) hK hK2))))
  · intro v8
    exact xr_lret F dX6_quotaBy_13
  · intro q
    refine xT.catch F htb (tableOf []) ⟨0, 13, 14, 120⟩ (tableOf []) rfl rfl xps0 rfl (Or.inr ⟨by decide, _, q2349, q2406⟩) ?_
    refine xs_a_n [] F dX6_quotaBy_14 hnL rfl rfl xk0 ?_
    refine xr_new F dX6_quotaBy_15 xk_30 xdf_30 q2313 q2435 q171 (fun v15 => ?_)
    refine xr_dup F dX6_quotaBy_18 (xrf_cat _) ?_
    refine xr_aload_n 0 (r := (some q)) F dX6_quotaBy_19 rfl ?_
    refine xr_IV (y := yX15_init) (As := [va_rf (some q)]) F (xno_of htb rfl) dX6_quotaBy_20 (fX15_init_m (xFG F) v15 (some q)) rfl rfl q2445 (Or.inl q2443) q2444 (xroom hRm (Nat.le_of_ble_eq_true rfl) (Nat.le_of_ble_eq_true rfl)) ⟨by decide, by decide⟩ n_X15_init rfl (xcat (Nat.le_of_ble_eq_true rfl)) (fun _ => ?_)
    exact xr_throw (r := (some v15)) F dX6_quotaBy_23 (xno_of htb rfl)
theorem fX6_begin_m {l : Launch} {D : xD} {s0 : State} {b0 : Nat} {Γ : Nat → Option Nat} (G : xG l D s0 b0 Γ) (a0 : Nat) (p0 : Int32) : xMeth l D s0 Γ yX6_begin (Cond.codeWith yX6_begin cX6_begin 5 none [(25, 73, 76, 122)]) (5003) (112057) [.ref a0, .int p0] xeV (fX6_begin a0 p0) := by
  refine xMeth.of (lv0 := [(0, va_rf (some a0)), (1, .int p0)]) G (by decide +kernel) (Or.inr ⟨_, rfl⟩) (Nat.le_of_ble_eq_true rfl) rfl (fun x F hnL hRm hmn ht e1 e2 e3 e4 => ?_)
  have htb : x.2.2.2.2.2.2.2.2.2.1.exceptionTable.toList = tableOf [(25, 73, 76, 122)] := ht.2 _ rfl
  unfold fX6_begin
  refine xr_aload_n 0 (r := (some a0)) F dX6_begin_0 rfl ?_
  refine xr_gR (r := (some a0)) (ref := "ReserveLedger$Herd") F dX6_begin_1 (C := RX6) (T := TX6) (N := 8) rfl (by decide) (Or.inl q2042) (Or.inl rfl) (fun v1 => ?_)
  refine xr_VI (y := yX10_total) (As := []) (r := v1) F (xno_of htb rfl) dX6_begin_4 (fun z => fX10_total_m (xFG F) z) (Or.inl rfl) (ci := 24) (C := RX10) (T := TX10) rfl q1642 q1639 q1640 q1641 (xroom hRm (Nat.le_of_ble_eq_true rfl) (Nat.le_of_ble_eq_true rfl)) ⟨by decide, by decide⟩ n_X10_total rfl (xcat (Nat.le_of_ble_eq_true rfl)) (fun v4 => ?_)
  refine xs_i_n [0, 1] F dX6_begin_7 hnL rfl rfl (xk1 rfl rfl (xk2 rfl rfl xk0)) ?_
  refine xr_aload_n 1 (r := (some a0)) F dX6_begin_8 rfl ?_
  refine xr_new F dX6_begin_9 xk_22 xdf_22 q1638 q1953 q161 (fun v9 => ?_)
  refine xr_dup F dX6_begin_12 (xrf_cat _) ?_
  refine xr_iload_n 0 F dX6_begin_13 rfl ?_
  refine xr_IV (y := yX9_init) (As := [.int v4]) F (xno_of htb rfl) dX6_begin_14 (fX9_init_m (xFG F) v9 v4) rfl rfl q1956 (Or.inl q1954) q1955 (xroom hRm (Nat.le_of_ble_eq_true rfl) (Nat.le_of_ble_eq_true rfl)) ⟨by decide, by decide⟩ n_X9_init rfl (xcat (Nat.le_of_ble_eq_true rfl)) (fun _ => ?_)
  refine xr_put (r := (some a0)) (ref := "ReserveLedger$Herd") F dX6_begin_17 xk_19 (by decide) (Or.inl q2052) (Or.inl rfl) (Or.inl rfl) (xr_rf _ _) ?_
  refine xr_aload_n 1 (r := (some a0)) F dX6_begin_20 rfl ?_
  refine xr_iconst (0 : Int32) F dX6_begin_21 rfl ?_
  refine xr_pN (r := (some a0)) (ref := "ReserveLedger$Herd") F dX6_begin_22 xk_19 (by decide) (Or.inl q2050) (Or.inl rfl) (Or.inl rfl) ?_
  refine xr_aload_n 1 (r := (some a0)) F dX6_begin_25 rfl ?_
  refine xr_new F dX6_begin_26 xk_28 xdf_28 q2314 q2315 q169 (fun v26 => ?_)
  refine xr_dup F dX6_begin_29 (xrf_cat _) ?_
  refine xr_iload_n 0 F dX6_begin_30 rfl ?_
  refine xr_i2l F dX6_begin_31 ?_
  refine xr_aload_n 1 (r := (some a0)) F dX6_begin_32 rfl ?_
  refine xr_gR (r := (some a0)) (ref := "ReserveLedger$Herd") F dX6_begin_33 (C := RX6) (T := TX6) (N := 8) rfl (by decide) (Or.inl q2042) (Or.inl rfl) (fun v33 => ?_)
  refine xr_VIT (y := yX10_adults) (As := []) (r := v33) F dX6_begin_36 (fun z => fX10_adults_m (xFG F) z) (Or.inl rfl) (ci := 24) (C := RX10) (T := TX10) rfl q2319 q2316 q2317 q2318 (xroom hRm (Nat.le_of_ble_eq_true rfl) (Nat.le_of_ble_eq_true rfl)) ⟨by decide, by decide⟩ n_X10_adults rfl (xcat (Nat.le_of_ble_eq_true rfl)) (fun v36 => ?_) (fun q => ?_)
  · refine xr_i2l F dX6_begin_39 ?_
    refine xr_aload_n 1 (r := (some a0)) F dX6_begin_40 rfl ?_
    refine xr_iconst (0 : Int32) F dX6_begin_41 rfl ?_
    refine xr_VIT (y := yX6_cohort) (As := [.int (0 : Int32)]) (r := (some a0)) F dX6_begin_42 (fun z => fX6_cohort_m (xFG F) z (0 : Int32)) (Or.inl rfl) (ci := 19) (C := RX6) (T := TX6) rfl q2323 q2320 q2321 q2322 (xroom hRm (Nat.le_of_ble_eq_true rfl) (Nat.le_of_ble_eq_true rfl)) ⟨by decide, by decide⟩ n_X6_cohort rfl (by simp [xrf_cat, xct_i, xct_l, xct_d, xct_r]) (fun v42 => ?_) (fun q => ?_)
    · refine xr_i2l F dX6_begin_45 ?_
      refine xr_iload_n 2 F dX6_begin_46 rfl ?_
      refine xr_i2l F dX6_begin_47 ?_
      refine xr_IVT (y := yX13_init) (As := [.long v4.toInt64, .long v36.toInt64, .long v42.toInt64, .long p0.toInt64]) F dX6_begin_48 (fX13_init_m (xFG F) v26 v4.toInt64 v36.toInt64 v42.toInt64 p0.toInt64) rfl rfl q2326 (Or.inl q2324) q2325 (xroom hRm (Nat.le_of_ble_eq_true rfl) (Nat.le_of_ble_eq_true rfl)) ⟨by decide, by decide⟩ n_X13_init rfl (xcat (Nat.le_of_ble_eq_true rfl)) (fun _ => ?_) (fun q => ?_)
      · refine xr_VJT (y := yX6_quotaBy) (As := [va_rf (some v26)]) (r := (some a0)) F dX6_begin_51 (fun z => fX6_quotaBy_m (xFG F) z (some v26)) (Or.inr ⟨_, rfl⟩) (ci := 19) (C := RX6) (T := TX6) rfl q2348 q2345 q2347 qs33 (xroom hRm (Nat.le_of_ble_eq_true rfl) (Nat.le_of_ble_eq_true rfl)) ⟨by decide, by decide⟩ n_X6_quotaBy rfl (xcat (Nat.le_of_ble_eq_true rfl)) (fun v51 => ?_) (fun q => ?_)
        · refine xs_l_n [0, 1] F dX6_begin_54 hnL rfl rfl (xk2 rfl rfl (xk1 rfl rfl xk0)) (xk21 rfl (xk21 rfl xk20)) ?_
          refine xr_aload_n 2 (r := (some a0)) F dX6_begin_55 rfl ?_
          refine xr_gR (r := (some a0)) (ref := "ReserveLedger$Herd") F dX6_begin_56 (C := RX6) (T := TX6) (N := 8) rfl (by decide) (Or.inl q2052) (Or.inl rfl) (fun v56 => ?_)
          refine xr_lconst 0 F dX6_begin_59 rfl ?_
          refine xr_iload_n 1 F dX6_begin_60 rfl ?_
          refine xr_i2l F dX6_begin_61 ?_
          refine xr_lload_n 0 F dX6_begin_62 rfl ?_
          refine xr_SJT (y := yJ12_min_2) (As := [.long v4.toInt64, .long v51]) F dX6_begin_63 (fJ12_min_2_m (xFG F) v4.toInt64 v51) (Or.inl rfl) q2424 q135 (Or.inl q2449) q2423 (xroom hRm (Nat.le_of_ble_eq_true rfl) (Nat.le_of_ble_eq_true rfl)) ⟨by decide, by decide⟩ n_J12_min_2 rfl (xcat (Nat.le_of_ble_eq_true rfl)) (fun v63 => ?_) (fun q => ?_)
          · refine xr_SJT (y := yJ12_max_2) (As := [.long (0 : Int64), .long v63]) F dX6_begin_66 (fJ12_max_2_m (xFG F) (0 : Int64) v63) (Or.inl rfl) q2430 q135 (Or.inl q2450) q2429 (xroom hRm (Nat.le_of_ble_eq_true rfl) (Nat.le_of_ble_eq_true rfl)) ⟨by decide, by decide⟩ n_J12_max_2 rfl (xcat (Nat.le_of_ble_eq_true rfl)) (fun v66 => ?_) (fun q => ?_)
            · refine xr_l2i F dX6_begin_69 ?_
              refine xr_put (r := v56) (ref := "ReserveLedger$Ledger") F dX6_begin_70 xk_22 (by decide) (Or.inr ⟨_, q1976⟩) (Or.inl rfl) (Or.inl rfl) ⟨rfl, rfl⟩ ?_
              refine xr_goto 88 F dX6_begin_73 rfl ?_
              exact xr_vret F dX6_begin_88
            · exact xT.stuck
          · exact xT.stuck
        · refine xT.catch F htb (tableOf []) ⟨25, 73, 76, 122⟩ (tableOf []) rfl rfl xps0 rfl (Or.inr ⟨by decide, _, q2313, q2436⟩) ?_
          refine xs_a_n [1] F dX6_begin_76 hnL rfl rfl (xk1 rfl rfl xk0) ?_
          refine xr_aload_n 1 (r := (some a0)) F dX6_begin_77 rfl ?_
          refine xr_aload_n 0 (r := (some q)) F dX6_begin_78 rfl ?_
          refine xr_gc (r := (some q)) F (xno_of htb rfl) dX6_begin_79 rfl q2456 q2451 q2455 q2454 q2452 q2453 q505 (xroom hRm (Nat.le_of_ble_eq_true rfl) (Nat.le_of_ble_eq_true rfl)) (xcat (Nat.le_of_ble_eq_true rfl)) (fun v79 => ?_)
          refine xr_insE (ci := 29) (r := v79) F dX6_begin_82 q2349 rfl (fun v82 => ?_)
          refine xr_pN (r := (some a0)) (ref := "ReserveLedger$Herd") F dX6_begin_85 xk_19 (by decide) (Or.inl q2050) (Or.inl rfl) (Or.inl rfl) ?_
          exact xr_vret F dX6_begin_88
      · exact xT.stuck
    · exact xT.stuck
  · exact xT.stuck
theorem fX4_byteAt_m {l : Launch} {D : xD} {s0 : State} {b0 : Nat} {Γ : Nat → Option Nat} (G : xG l D s0 b0 Γ) (a0 : Nat) (p0 : Int32) : xMeth l D s0 Γ yX4_byteAt (Cond.code yX4_byteAt cX4_byteAt 2 (some .int)) (1) (12) [.ref a0, .int p0] xeI (fX4_byteAt a0 p0) := by
  refine xMeth.of (lv0 := [(0, va_rf (some a0)), (1, .int p0)]) G (by decide +kernel) (Or.inl rfl) (Nat.le_of_ble_eq_true rfl) rfl (fun x F hnL hRm hmn ht e1 e2 e3 e4 => ?_)
  have hno : ∀ pc, xNo x pc := fun pc z hz => by rw [ht.1 rfl] at hz; cases hz
  unfold fX4_byteAt
  refine xr_iload_n 1 F dX4_byteAt_0 rfl ?_
  refine xr_aload_n 0 (r := (some a0)) F dX4_byteAt_1 rfl ?_
  refine xr_gI (r := (some a0)) (ref := "ReserveLedger$Parser") F dX4_byteAt_2 (C := RX4) (T := TX4) (N := 5) rfl (by decide) (Or.inl q1755) (Or.inl rfl) (fun v2 => ?_)
  refine xr_icmp_ge 24 F dX4_byteAt_5 rfl ?_ ?_
  · refine xr_iconst (-1 : Int32) F dX4_byteAt_24 rfl ?_
    exact xr_iret F dX4_byteAt_25
  · refine xr_aload_n 0 (r := (some a0)) F dX4_byteAt_8 rfl ?_
    refine xr_gR (r := (some a0)) (ref := "ReserveLedger$Parser") F dX4_byteAt_9 (C := RX4) (T := TX4) (N := 5) rfl (by decide) (Or.inl q1759) (Or.inl rfl) (fun v9 => ?_)
    refine xr_gR (r := v9) (ref := "ReserveLedger") F dX4_byteAt_12 (C := RX1) (T := TX1) (N := 7) rfl (by decide) (Or.inr ⟨_, q609⟩) (Or.inl rfl) (fun v12 => ?_)
    refine xr_iload_n 1 F dX4_byteAt_15 rfl ?_
    refine xr_bald (r := v12) F dX4_byteAt_16 (fun v16 => ?_)
    refine xr_sipush (255 : Int32) F dX4_byteAt_17 rfl ?_
    refine xr_iand F dX4_byteAt_20 ?_
    refine xr_goto 25 F dX4_byteAt_21 rfl ?_
    exact xr_iret F dX4_byteAt_25
theorem fX4_peek_p39_ok {x : xC} (F : xF x RX4 cX4_peek (some .int)) (hnL : xnL x = 1) (hRm : ∃ dc ds, x.2.2.2.1 = { frames := 2, cells := dc, slots := ds, locals := 33 }) (hno : ∀ pc, xNo x pc) (hmn : xmn x = "peek" ∧ xmy x yX4_peek) {k0 : Nat → xM (Int32)} (hk0 : ∀ (l0 : Nat), xI x xeI 0 [(0, va_rf (some l0))] [] (k0 l0)) (l0 : Nat) : xI x xeI 39 [(0, va_rf (some l0))] [] (fX4_peek_p39 k0 l0) := by
  unfold fX4_peek_p39
  refine xr_aload_n 0 (r := (some l0)) F dX4_peek_39 rfl ?_
  refine xr_dup F dX4_peek_40 (xrf_cat _) ?_
  refine xr_gI (r := (some l0)) (ref := "ReserveLedger$Parser") F dX4_peek_41 (C := RX4) (T := TX4) (N := 5) rfl (by decide) (Or.inl q1756) (Or.inl rfl) (fun v41 => ?_)
  refine xr_iconst (1 : Int32) F dX4_peek_44 rfl ?_
  refine xr_iadd F dX4_peek_45 ?_
  refine xr_put (r := (some l0)) (ref := "ReserveLedger$Parser") F dX4_peek_46 xk_17 (by decide) (Or.inl q1756) (Or.inl rfl) (Or.inl rfl) ⟨rfl, rfl⟩ ?_
  refine xr_goto 0 F dX4_peek_49 rfl ?_
  exact xI.sub [0] rfl (hk0 l0)
theorem fX4_peek_p0_ok {x : xC} (F : xF x RX4 cX4_peek (some .int)) (hnL : xnL x = 1) (hRm : ∃ dc ds, x.2.2.2.1 = { frames := 2, cells := dc, slots := ds, locals := 33 }) (hno : ∀ pc, xNo x pc) (hmn : xmn x = "peek" ∧ xmy x yX4_peek) : ∀ (n : Nat) (l0 : Nat), xI x xeI 0 [(0, va_rf (some l0))] [] (fX4_peek_p0 n l0) := by
  intro n
  induction n with
  | zero => intro l0; exact xI.stuck
  | succ n ih =>
    intro l0
    unfold fX4_peek_p0
    refine xr_aload_n 0 (r := (some l0)) F dX4_peek_0 rfl ?_
    refine xr_aload_n 0 (r := (some l0)) F dX4_peek_1 rfl ?_
    refine xr_gI (r := (some l0)) (ref := "ReserveLedger$Parser") F dX4_peek_2 (C := RX4) (T := TX4) (N := 5) rfl (by decide) (Or.inl q1756) (Or.inl rfl) (fun v2 => ?_)
    refine xr_VI (y := yX4_byteAt) (As := [.int v2]) (r := (some l0)) F (hno _) dX4_peek_5 (fun z => fX4_byteAt_m (xFG F) z v2) (Or.inl rfl) (ci := 17) (C := RX4) (T := TX4) rfl q1782 q1779 q1781 qs15 (xroom hRm (Nat.le_of_ble_eq_true rfl) (Nat.le_of_ble_eq_true rfl)) ⟨by decide, by decide⟩ n_X4_byteAt rfl (xcat (Nat.le_of_ble_eq_true rfl)) (fun v5 => ?_)
    refine xr_bipush (9 : Int32) F dX4_peek_8 rfl ?_
    refine xr_icmp_eq 39 F dX4_peek_10 rfl ?_ ?_
    · exact xI.sub [0] rfl (fX4_peek_p39_ok F hnL hRm hno hmn ih l0)
    · refine xr_aload_n 0 (r := (some l0)) F dX4_peek_13 rfl ?_
      refine xr_aload_n 0 (r := (some l0)) F dX4_peek_14 rfl ?_
      refine xr_gI (r := (some l0)) (ref := "ReserveLedger$Parser") F dX4_peek_15 (C := RX4) (T := TX4) (N := 5) rfl (by decide) (Or.inl q1756) (Or.inl rfl) (fun v15 => ?_)
      refine xr_VI (y := yX4_byteAt) (As := [.int v15]) (r := (some l0)) F (hno _) dX4_peek_18 (fun z => fX4_byteAt_m (xFG F) z v15) (Or.inl rfl) (ci := 17) (C := RX4) (T := TX4) rfl q1782 q1779 q1781 qs15 (xroom hRm (Nat.le_of_ble_eq_true rfl) (Nat.le_of_ble_eq_true rfl)) ⟨by decide, by decide⟩ n_X4_byteAt rfl (xcat (Nat.le_of_ble_eq_true rfl)) (fun v18 => ?_)
      refine xr_bipush (10 : Int32) F dX4_peek_21 rfl ?_
      refine xr_icmp_eq 39 F dX4_peek_23 rfl ?_ ?_
      · exact xI.sub [0] rfl (fX4_peek_p39_ok F hnL hRm hno hmn ih l0)
      · refine xr_aload_n 0 (r := (some l0)) F dX4_peek_26 rfl ?_
        refine xr_aload_n 0 (r := (some l0)) F dX4_peek_27 rfl ?_
        refine xr_gI (r := (some l0)) (ref := "ReserveLedger$Parser") F dX4_peek_28 (C := RX4) (T := TX4) (N := 5) rfl (by decide) (Or.inl q1756) (Or.inl rfl) (fun v28 => ?_)
        refine xr_VI (y := yX4_byteAt) (As := [.int v28]) (r := (some l0)) F (hno _) dX4_peek_31 (fun z => fX4_byteAt_m (xFG F) z v28) (Or.inl rfl) (ci := 17) (C := RX4) (T := TX4) rfl q1782 q1779 q1781 qs15 (xroom hRm (Nat.le_of_ble_eq_true rfl) (Nat.le_of_ble_eq_true rfl)) ⟨by decide, by decide⟩ n_X4_byteAt rfl (xcat (Nat.le_of_ble_eq_true rfl)) (fun v31 => ?_)
        refine xr_bipush (32 : Int32) F dX4_peek_34 rfl ?_
        refine xr_icmp_ne 52 F dX4_peek_36 rfl ?_ ?_
        · exact xI.sub [0] rfl (fX4_peek_p39_ok F hnL hRm hno hmn ih l0)
        · refine xr_aload_n 0 (r := (some l0)) F dX4_peek_52 rfl ?_
          refine xr_aload_n 0 (r := (some l0)) F dX4_peek_53 rfl ?_
          refine xr_gI (r := (some l0)) (ref := "ReserveLedger$Parser") F dX4_peek_54 (C := RX4) (T := TX4) (N := 5) rfl (by decide) (Or.inl q1756) (Or.inl rfl) (fun v54 => ?_)
          refine xr_VI (y := yX4_byteAt) (As := [.int v54]) (r := (some l0)) F (hno _) dX4_peek_57 (fun z => fX4_byteAt_m (xFG F) z v54) (Or.inl rfl) (ci := 17) (C := RX4) (T := TX4) rfl q1782 q1779 q1781 qs15 (xroom hRm (Nat.le_of_ble_eq_true rfl) (Nat.le_of_ble_eq_true rfl)) ⟨by decide, by decide⟩ n_X4_byteAt rfl (xcat (Nat.le_of_ble_eq_true rfl)) (fun v57 => ?_)
          exact xr_iret F dX4_peek_60
theorem fX4_peek_m {l : Launch} {D : xD} {s0 : State} {b0 : Nat} {Γ : Nat → Option Nat} (G : xG l D s0 b0 Γ) (a0 : Nat) : xMeth l D s0 Γ yX4_peek (Cond.code yX4_peek cX4_peek 1 (some .int)) (2) (33) [.ref a0] xeI (fX4_peek a0) := by
  refine xMeth.of (lv0 := [(0, va_rf (some a0))]) G (by decide +kernel) (Or.inl rfl) (Nat.le_of_ble_eq_true rfl) rfl (fun x F hnL hRm hmn ht e1 e2 e3 e4 => ?_)
  have hno : ∀ pc, xNo x pc := fun pc z hz => by rw [ht.1 rfl] at hz; cases hz
  unfold fX4_peek
  exact xI.sub [0] rfl (fX4_peek_p0_ok F hnL hRm hno hmn xFU a0)
theorem fJ20_init_m {l : Launch} {D : xD} {s0 : State} {b0 : Nat} {Γ : Nat → Option Nat} (G : xG l D s0 b0 Γ) (a0 : Nat) (p0 : Option Nat) : xMeth l D s0 Γ yJ20_init (Cond.code yJ20_init cJ20_init 2 none) (1) (20) [.ref a0, va_rf p0] xeV (fJ20_init a0 p0) := by
  refine xMeth.of (lv0 := [(0, va_rf (some a0)), (1, va_rf p0)]) G (by decide +kernel) (Or.inl rfl) (by simp [lg_sl, xrf_cat, xct_i, xct_l, xct_d, xct_r]) (by simp [lv_args, xrf_cat, xct_i, xct_l, xct_d, xct_r, xrf_some]) (fun x F hnL hRm hmn ht e1 e2 e3 e4 => ?_)
  have hno : ∀ pc, xNo x pc := fun pc z hz => by rw [ht.1 rfl] at hz; cases hz
  unfold fJ20_init
  refine xr_aload_n 0 (r := (some a0)) F dJ20_init_0 rfl ?_
  refine xr_aload_n 1 (r := p0) F dJ20_init_1 rfl ?_
  refine xr_put (r := (some a0)) (ref := "java/util/ArrayList$Itr") F dJ20_init_2 xk_7 (by decide) (Or.inl q705) (Or.inl rfl) (Or.inr ⟨rfl, hmn.1, rfl, q705⟩) (xr_rf _ _) ?_
  refine xr_aload_n 0 (r := (some a0)) F dJ20_init_5 rfl ?_
  refine xr_obj F dJ20_init_6 q699 q200 (q_objcode) (xroom hRm (Nat.le_of_ble_eq_true rfl) (Nat.le_of_ble_eq_true rfl)) (xcat (Nat.le_of_ble_eq_true rfl)) ?_
  refine xr_aload_n 0 (r := (some a0)) F dJ20_init_9 rfl ?_
  refine xr_iconst (-1 : Int32) F dJ20_init_10 rfl ?_
  refine xr_put (r := (some a0)) (ref := "java/util/ArrayList$Itr") F dJ20_init_11 xk_7 (by decide) (Or.inl q703) (Or.inl rfl) (Or.inl rfl) ⟨rfl, rfl⟩ ?_
  refine xr_aload_n 0 (r := (some a0)) F dJ20_init_14 rfl ?_
  refine xr_aload_n 0 (r := (some a0)) F dJ20_init_15 rfl ?_
  refine xr_gR (r := (some a0)) (ref := "java/util/ArrayList$Itr") F dJ20_init_16 (C := RJ20) (T := TJ20) (N := 4) rfl (by decide) (Or.inl q705) (Or.inl rfl) (fun v16 => ?_)
  refine xr_gI (r := v16) (ref := "java/util/ArrayList") F dJ20_init_19 (C := RJ2) (T := TJ2) (N := 3) rfl (by decide) (Or.inl q550) (Or.inr q551) (fun v19 => ?_)
  refine xr_put (r := (some a0)) (ref := "java/util/ArrayList$Itr") F dJ20_init_22 xk_7 (by decide) (Or.inl q704) (Or.inl rfl) (Or.inl rfl) ⟨rfl, rfl⟩ ?_
  exact xr_vret F dJ20_init_25
theorem fJ2_iterator_m {l : Launch} {D : xD} {s0 : State} {b0 : Nat} {Γ : Nat → Option Nat} (G : xG l D s0 b0 Γ) (a0 : Nat) : xMeth l D s0 Γ yJ2_iterator (Cond.code yJ2_iterator cJ2_iterator 1 (some (.object "java/util/Iterator"))) (2) (41) [.ref a0] xeR (fJ2_iterator a0) := by
  refine xMeth.of (lv0 := [(0, va_rf (some a0))]) G (by decide +kernel) (Or.inl rfl) (Nat.le_of_ble_eq_true rfl) rfl (fun x F hnL hRm hmn ht e1 e2 e3 e4 => ?_)
  have hno : ∀ pc, xNo x pc := fun pc z hz => by rw [ht.1 rfl] at hz; cases hz
  unfold fJ2_iterator
  refine xr_new F dJ2_iterator_0 xk_7 xdf_7 q694 q695 q147 (fun v0 => ?_)
  refine xr_dup F dJ2_iterator_3 (xrf_cat _) ?_
  refine xr_aload_n 0 (r := (some a0)) F dJ2_iterator_4 rfl ?_
  refine xr_IV (y := yJ20_init) (As := [va_rf (some a0)]) F (hno _) dJ2_iterator_5 (fJ20_init_m (xFG F) v0 (some a0)) rfl rfl q698 (Or.inl q696) q697 (xroom hRm (Nat.le_of_ble_eq_true rfl) (Nat.le_of_ble_eq_true rfl)) ⟨by decide, by decide⟩ n_J20_init rfl (xcat (Nat.le_of_ble_eq_true rfl)) (fun _ => ?_)
  exact xr_aret (v := (some v0)) F dJ2_iterator_8 (Or.inl ⟨_, rfl⟩)
theorem fJ3_init_4__X5_p41_ok {x : xC} (F : xF x RJ3 cJ3_init_4 none) (hnL : xnL x = 5) (hRm : ∃ dc ds, x.2.2.2.1 = { frames := 1, cells := dc, slots := ds, locals := 20 }) (hno : ∀ pc, xNo x pc) (hmn : xmn x = "<init>" ∧ xmy x yJ3_init_4) (l0 : Nat) (l1 : Option Nat) (l2 : Option Nat) (l3 : Int32) : xI x xeV 41 [(0, va_rf (some l0)), (1, va_rf l1), (2, va_rf l2), (3, .int l3)] [] (fJ3_init_4__X5_p41 l0 l1 l2 l3) := by
  unfold fJ3_init_4__X5_p41
  refine xr_aload_n 0 (r := (some l0)) F dJ3_init_4_41 rfl ?_
  refine xr_aload_n 1 (r := l1) F dJ3_init_4_42 rfl ?_
  refine xr_put (r := (some l0)) (ref := "java/lang/Throwable") F dJ3_init_4_43 xk_18 (by decide) (Or.inl q504) (Or.inl rfl) (Or.inl rfl) (xr_rf _ _) ?_
  refine xr_aload_n 0 (r := (some l0)) F dJ3_init_4_46 rfl ?_
  refine xr_aload_n 2 (r := l2) F dJ3_init_4_47 rfl ?_
  refine xr_put (r := (some l0)) (ref := "java/lang/Throwable") F dJ3_init_4_48 xk_18 (by decide) (Or.inl q505) (Or.inl rfl) (Or.inl rfl) (xr_rf _ _) ?_
  refine xr_iload_n 3 F dJ3_init_4_51 rfl ?_
  refine xr_if_ne 60 F dJ3_init_4_52 rfl ?_ ?_
  · refine xr_aload_n 0 (r := (some l0)) F dJ3_init_4_55 rfl ?_
    refine xr_null F dJ3_init_4_56 ?_
    refine xr_put (r := (some l0)) (ref := "java/lang/Throwable") F dJ3_init_4_57 xk_18 (by decide) (Or.inl q507) (Or.inl rfl) (Or.inl rfl) (xr_rf _ _) ?_
    exact xr_vret F dJ3_init_4_60
  · exact xr_vret F dJ3_init_4_60
theorem fJ3_init_4__X5_m {l : Launch} {D : xD} {s0 : State} {b0 : Nat} {Γ : Nat → Option Nat} (G : xG l D s0 b0 Γ) (a0 : Nat) (p0 : Option Nat) (p1 : Option Nat) (p2 : Int32) (p3 : Int32) : xMeth l D s0 Γ yJ3_init_4 (Cond.code yJ3_init_4 cJ3_init_4 5 none) (1) (20) [.ref a0, va_rf p0, va_rf p1, .int p2, .int p3] xeV (fJ3_init_4__X5 a0 p0 p1 p2 p3) := by
  refine xMeth.of (lv0 := [(0, va_rf (some a0)), (1, va_rf p0), (2, va_rf p1), (3, .int p2), (4, .int p3)]) G (by decide +kernel) (Or.inl rfl) (by simp [lg_sl, xrf_cat, xct_i, xct_l, xct_d, xct_r]) (by simp [lv_args, xrf_cat, xct_i, xct_l, xct_d, xct_r, xrf_some]) (fun x F hnL hRm hmn ht e1 e2 e3 e4 => ?_)
  have hno : ∀ pc, xNo x pc := fun pc z hz => by rw [ht.1 rfl] at hz; cases hz
  unfold fJ3_init_4__X5
  refine xr_aload_n 0 (r := (some a0)) F dJ3_init_4_0 rfl ?_
  refine xr_obj F dJ3_init_4_1 q249 q200 (q_objcode) (xroom hRm (Nat.le_of_ble_eq_true rfl) (Nat.le_of_ble_eq_true rfl)) (xcat (Nat.le_of_ble_eq_true rfl)) ?_
  refine xr_aload_n 0 (r := (some a0)) F dJ3_init_4_4 rfl ?_
  refine xr_aload_n 0 (r := (some a0)) F dJ3_init_4_5 rfl ?_
  refine xr_put (r := (some a0)) (ref := "java/lang/Throwable") F dJ3_init_4_6 xk_18 (by decide) (Or.inl q505) (Or.inl rfl) (Or.inl rfl) (xr_rf _ _) ?_
  refine xr_aload_n 0 (r := (some a0)) F dJ3_init_4_9 rfl ?_
  refine xr_gs (k := 18) F dJ3_init_4_10 rfl q250 (fun v10 => ?_)
  refine xr_put (r := (some a0)) (ref := "java/lang/Throwable") F dJ3_init_4_13 xk_18 (by decide) (Or.inl q506) (Or.inl rfl) (Or.inl rfl) (xr_rfa _ _) ?_
  refine xr_aload_n 0 (r := (some a0)) F dJ3_init_4_16 rfl ?_
  refine xr_gs (k := 19) F dJ3_init_4_17 rfl q252 (fun v17 => ?_)
  refine xr_put (r := (some a0)) (ref := "java/lang/Throwable") F dJ3_init_4_20 xk_18 (by decide) (Or.inl q507) (Or.inl rfl) (Or.inl rfl) (xr_rf _ _) ?_
  refine xr_iload 4 F dJ3_init_4_23 rfl ?_
  refine xr_if_eq 36 F dJ3_init_4_25 rfl ?_ ?_
  · refine xr_aload_n 0 (r := (some a0)) F dJ3_init_4_36 rfl ?_
    refine xr_null F dJ3_init_4_37 ?_
    refine xr_put (r := (some a0)) (ref := "java/lang/Throwable") F dJ3_init_4_38 xk_18 (by decide) (Or.inl q506) (Or.inl rfl) (Or.inl rfl) (xr_rfa _ _) ?_
    exact xI.sub [0, 1, 2, 3] rfl (fJ3_init_4__X5_p41_ok F hnL hRm hno hmn a0 p0 p1 p2)
  · refine xr_aload_n 0 (r := (some a0)) F dJ3_init_4_28 rfl ?_
    exact xI.stuck
theorem fJ4_init_4__X5_m {l : Launch} {D : xD} {s0 : State} {b0 : Nat} {Γ : Nat → Option Nat} (G : xG l D s0 b0 Γ) (a0 : Nat) (p0 : Option Nat) (p1 : Option Nat) (p2 : Int32) (p3 : Int32) : xMeth l D s0 Γ yJ4_init_4 (Cond.code yJ4_init_4 cJ4_init_4 5 none) (2) (44) [.ref a0, va_rf p0, va_rf p1, .int p2, .int p3] xeV (fJ4_init_4__X5 a0 p0 p1 p2 p3) := by
  refine xMeth.of (lv0 := [(0, va_rf (some a0)), (1, va_rf p0), (2, va_rf p1), (3, .int p2), (4, .int p3)]) G (by decide +kernel) (Or.inl rfl) (by simp [lg_sl, xrf_cat, xct_i, xct_l, xct_d, xct_r]) (by simp [lv_args, xrf_cat, xct_i, xct_l, xct_d, xct_r, xrf_some]) (fun x F hnL hRm hmn ht e1 e2 e3 e4 => ?_)
  have hno : ∀ pc, xNo x pc := fun pc z hz => by rw [ht.1 rfl] at hz; cases hz
  unfold fJ4_init_4__X5
  refine xr_aload_n 0 (r := (some a0)) F dJ4_init_4_0 rfl ?_
  refine xr_aload_n 1 (r := p0) F dJ4_init_4_1 rfl ?_
  refine xr_aload_n 2 (r := p1) F dJ4_init_4_2 rfl ?_
  refine xr_iload_n 3 F dJ4_init_4_3 rfl ?_
  refine xr_iload 4 F dJ4_init_4_4 rfl ?_
  refine xr_IV (y := yJ3_init_4) (As := [va_rf p0, va_rf p1, .int p2, .int p3]) F (hno _) dJ4_init_4_6 (fJ3_init_4__X5_m (xFG F) a0 p0 p1 p2 p3) rfl rfl q1828 (Or.inl q1826) q1827 (xroom hRm (Nat.le_of_ble_eq_true rfl) (Nat.le_of_ble_eq_true rfl)) ⟨by decide, by decide⟩ n_J3_init_4 rfl (xcat (Nat.le_of_ble_eq_true rfl)) (fun _ => ?_)
  exact xr_vret F dJ4_init_4_9
theorem fX5_init_m {l : Launch} {D : xD} {s0 : State} {b0 : Nat} {Γ : Nat → Option Nat} (G : xG l D s0 b0 Γ) (a0 : Nat) (p0 : Int32) (p1 : Int32) : xMeth l D s0 Γ yX5_init (Cond.code yX5_init cX5_init 3 none) (3) (68) [.ref a0, .int p0, .int p1] xeV (fX5_init a0 p0 p1) := by
  refine xMeth.of (lv0 := [(0, va_rf (some a0)), (1, .int p0), (2, .int p1)]) G (by decide +kernel) (Or.inl rfl) (Nat.le_of_ble_eq_true rfl) rfl (fun x F hnL hRm hmn ht e1 e2 e3 e4 => ?_)
  have hno : ∀ pc, xNo x pc := fun pc z hz => by rw [ht.1 rfl] at hz; cases hz
  unfold fX5_init
  refine xr_aload_n 0 (r := (some a0)) F dX5_init_0 rfl ?_
  refine xr_null F dX5_init_1 ?_
  refine xr_null F dX5_init_2 ?_
  refine xr_iconst (0 : Int32) F dX5_init_3 rfl ?_
  refine xr_iconst (0 : Int32) F dX5_init_4 rfl ?_
  refine xr_IV (y := yJ4_init_4) (As := [va_rf none, va_rf none, .int (0 : Int32), .int (0 : Int32)]) F (hno _) dX5_init_5 (fJ4_init_4__X5_m (xFG F) a0 none none (0 : Int32) (0 : Int32)) rfl rfl q1825 (Or.inl q1823) q1824 (xroom hRm (Nat.le_of_ble_eq_true rfl) (Nat.le_of_ble_eq_true rfl)) ⟨by decide, by decide⟩ n_J4_init_4 rfl (xcat (Nat.le_of_ble_eq_true rfl)) (fun _ => ?_)
  refine xr_aload_n 0 (r := (some a0)) F dX5_init_8 rfl ?_
  refine xr_iload_n 1 F dX5_init_9 rfl ?_
  refine xr_put (r := (some a0)) (ref := "ReserveLedger$TextError") F dX5_init_10 xk_18 (by decide) (Or.inl q1829) (Or.inl rfl) (Or.inr ⟨rfl, hmn.1, rfl, q1829⟩) ⟨rfl, rfl⟩ ?_
  refine xr_aload_n 0 (r := (some a0)) F dX5_init_13 rfl ?_
  refine xr_iload_n 2 F dX5_init_14 rfl ?_
  refine xr_put (r := (some a0)) (ref := "ReserveLedger$TextError") F dX5_init_15 xk_18 (by decide) (Or.inl q1831) (Or.inl rfl) (Or.inr ⟨rfl, hmn.1, rfl, q1831⟩) ⟨rfl, rfl⟩ ?_
  exact xr_vret F dX5_init_18
theorem fX4_require_m {l : Launch} {D : xD} {s0 : State} {b0 : Nat} {Γ : Nat → Option Nat} (G : xG l D s0 b0 Γ) (a0 : Nat) (p0 : Int32) (p1 : Int32) (p2 : Int32) : xMeth l D s0 Γ yX4_require (Cond.code yX4_require cX4_require 4 none) (4) (90) [.ref a0, .int p0, .int p1, .int p2] xeV (fX4_require a0 p0 p1 p2) := by
  refine xMeth.of (lv0 := [(0, va_rf (some a0)), (1, .int p0), (2, .int p1), (3, .int p2)]) G (by decide +kernel) (Or.inl rfl) (Nat.le_of_ble_eq_true rfl) rfl (fun x F hnL hRm hmn ht e1 e2 e3 e4 => ?_)
  have hno : ∀ pc, xNo x pc := fun pc z hz => by rw [ht.1 rfl] at hz; cases hz
  unfold fX4_require
  refine xr_iload_n 1 F dX4_require_0 rfl ?_
  refine xr_if_ne 14 F dX4_require_1 rfl ?_ ?_
  · refine xr_new F dX4_require_4 xk_18 xdf_18 q1811 q1812 q146 (fun v4 => ?_)
    refine xr_dup F dX4_require_7 (xrf_cat _) ?_
    refine xr_iload_n 2 F dX4_require_8 rfl ?_
    refine xr_iload_n 3 F dX4_require_9 rfl ?_
    refine xr_IV (y := yX5_init) (As := [.int p1, .int p2]) F (hno _) dX4_require_10 (fX5_init_m (xFG F) v4 p1 p2) rfl rfl q1822 (Or.inl q1820) q1821 (xroom hRm (Nat.le_of_ble_eq_true rfl) (Nat.le_of_ble_eq_true rfl)) ⟨by decide, by decide⟩ n_X5_init rfl (xcat (Nat.le_of_ble_eq_true rfl)) (fun _ => ?_)
    exact xr_throw (r := (some v4)) F dX4_require_13 (hno _)
  · exact xr_vret F dX4_require_14
theorem fX1_inRange_m {l : Launch} {D : xD} {s0 : State} {b0 : Nat} {Γ : Nat → Option Nat} (G : xG l D s0 b0 Γ) (p0 : Int32) (p1 : Int32) (p2 : Int32) : xMeth l D s0 Γ yX1_inRange (Cond.code yX1_inRange cX1_inRange 3 (some .boolean)) (1) (12) [.int p0, .int p1, .int p2] xeI (fX1_inRange p0 p1 p2) := by
  refine xMeth.of (lv0 := [(0, .int p0), (1, .int p1), (2, .int p2)]) G (by decide +kernel) (Or.inl rfl) (Nat.le_of_ble_eq_true rfl) rfl (fun x F hnL hRm hmn ht e1 e2 e3 e4 => ?_)
  have hno : ∀ pc, xNo x pc := fun pc z hz => by rw [ht.1 rfl] at hz; cases hz
  unfold fX1_inRange
  refine xr_iload_n 0 F dX1_inRange_0 rfl ?_
  refine xr_iload_n 1 F dX1_inRange_1 rfl ?_
  refine xr_icmp_lt 14 F dX1_inRange_2 rfl ?_ ?_
  · refine xr_iconst (0 : Int32) F dX1_inRange_14 rfl ?_
    exact xr_zret F dX1_inRange_15 rfl
  · refine xr_iload_n 0 F dX1_inRange_5 rfl ?_
    refine xr_iload_n 2 F dX1_inRange_6 rfl ?_
    refine xr_icmp_gt 14 F dX1_inRange_7 rfl ?_ ?_
    · refine xr_iconst (0 : Int32) F dX1_inRange_14 rfl ?_
      exact xr_zret F dX1_inRange_15 rfl
    · refine xr_iconst (1 : Int32) F dX1_inRange_10 rfl ?_
      refine xr_goto 15 F dX1_inRange_11 rfl ?_
      exact xr_zret F dX1_inRange_15 rfl
theorem fX4_isDigit_m {l : Launch} {D : xD} {s0 : State} {b0 : Nat} {Γ : Nat → Option Nat} (G : xG l D s0 b0 Γ) (a0 : Nat) (p0 : Int32) : xMeth l D s0 Γ yX4_isDigit (Cond.code yX4_isDigit cX4_isDigit 2 (some .boolean)) (2) (34) [.ref a0, .int p0] xeI (fX4_isDigit a0 p0) := by
  refine xMeth.of (lv0 := [(0, va_rf (some a0)), (1, .int p0)]) G (by decide +kernel) (Or.inl rfl) (Nat.le_of_ble_eq_true rfl) rfl (fun x F hnL hRm hmn ht e1 e2 e3 e4 => ?_)
  have hno : ∀ pc, xNo x pc := fun pc z hz => by rw [ht.1 rfl] at hz; cases hz
  unfold fX4_isDigit
  refine xr_iload_n 1 F dX4_isDigit_0 rfl ?_
  refine xr_bipush (48 : Int32) F dX4_isDigit_1 rfl ?_
  refine xr_bipush (57 : Int32) F dX4_isDigit_3 rfl ?_
  refine xr_SI (y := yX1_inRange) (As := [.int p0, .int (48 : Int32), .int (57 : Int32)]) F (hno _) dX4_isDigit_5 (fX1_inRange_m (xFG F) p0 (48 : Int32) (57 : Int32)) (Or.inl rfl) q646 q121 (Or.inr ⟨_, q1793⟩) q645 (xroom hRm (Nat.le_of_ble_eq_true rfl) (Nat.le_of_ble_eq_true rfl)) ⟨by decide, by decide⟩ n_X1_inRange rfl (xcat (Nat.le_of_ble_eq_true rfl)) (fun v5 => ?_)
  exact xr_nret F dX4_isDigit_8
theorem fX4_number_p72_ok {x : xC} (F : xF x RX4 cX4_number (some .int)) (hnL : xnL x = 6) (hRm : ∃ dc ds, x.2.2.2.1 = { frames := 5, cells := dc, slots := ds, locals := 113 }) (hno : ∀ pc, xNo x pc) (hmn : xmn x = "number" ∧ xmy x yX4_number) {k28 : Nat → Int32 → Int32 → Int32 → Int32 → Int32 → xM (Int32)} (hk28 : ∀ (l0 : Nat) (l1 : Int32) (l2 : Int32) (l3 : Int32) (l4 : Int32) (l5 : Int32), xI x xeI 28 [(0, va_rf (some l0)), (1, .int l1), (2, .int l2), (3, .int l3), (4, .int l4), (5, .int l5)] [] (k28 l0 l1 l2 l3 l4 l5)) (l0 : Nat) (l1 : Int32) (l2 : Int32) (l3 : Int32) (l5 : Int32) (s0 : Int32) : xI x xeI 72 [(0, va_rf (some l0)), (1, .int l1), (2, .int l2), (3, .int l3), (5, .int l5)] [.int s0] (fX4_number_p72 k28 l0 l1 l2 l3 l5 s0) := by
  unfold fX4_number_p72
  refine xs_i [0, 1, 2, 3, 4] F dX4_number_72 hnL rfl rfl (xk1 rfl rfl (xk1 rfl rfl (xk1 rfl rfl (xk2 rfl rfl (xk1 rfl rfl xk0))))) ?_
  refine xs_inc [5, 0, 1, 2, 3, 4] F dX4_number_74 rfl hnL rfl rfl (xk2 rfl rfl (xk1 rfl rfl (xk1 rfl rfl (xk1 rfl rfl (xk1 rfl rfl xk0))))) (fun x5_74 => ?_)
  refine xr_aload_n 2 (r := (some l0)) F dX4_number_77 rfl ?_
  refine xr_dup F dX4_number_78 (xrf_cat _) ?_
  refine xr_gI (r := (some l0)) (ref := "ReserveLedger$Parser") F dX4_number_79 (C := RX4) (T := TX4) (N := 5) rfl (by decide) (Or.inl q1756) (Or.inl rfl) (fun v79 => ?_)
  refine xr_iconst (1 : Int32) F dX4_number_82 rfl ?_
  refine xr_iadd F dX4_number_83 ?_
  refine xr_put (r := (some l0)) (ref := "ReserveLedger$Parser") F dX4_number_84 xk_17 (by decide) (Or.inl q1756) (Or.inl rfl) (Or.inl rfl) ⟨rfl, rfl⟩ ?_
  refine xr_goto 28 F dX4_number_87 rfl ?_
  exact xI.sub [2, 3, 4, 5, 1, 0] rfl (hk28 l0 l1 l2 l3 s0 x5_74)
theorem fX4_number_p113_ok {x : xC} (F : xF x RX4 cX4_number (some .int)) (hnL : xnL x = 6) (hRm : ∃ dc ds, x.2.2.2.1 = { frames := 5, cells := dc, slots := ds, locals := 113 }) (hno : ∀ pc, xNo x pc) (hmn : xmn x = "number" ∧ xmy x yX4_number) (l3 : Int32) (l4 : Int32) (s0 : Int32) (s1 : Nat) : xI x xeI 113 [(3, .int l3), (4, .int l4)] [.int s0, va_rf (some s1)] (fX4_number_p113 l3 l4 s0 s1) := by
  unfold fX4_number_p113
  refine xr_iconst (2 : Int32) F dX4_number_113 rfl ?_
  refine xr_iload_n 0 F dX4_number_114 rfl ?_
  refine xr_VV (y := yX4_require) (As := [.int s0, .int (2 : Int32), .int l3]) (r := (some s1)) F (hno _) dX4_number_115 (fun z => fX4_require_m (xFG F) z s0 (2 : Int32) l3) (Or.inl rfl) (ci := 17) (C := RX4) (T := TX4) rfl q1810 q1807 q1809 qs20 (xroom hRm (Nat.le_of_ble_eq_true rfl) (Nat.le_of_ble_eq_true rfl)) ⟨by decide, by decide⟩ n_X4_require rfl (xcat (Nat.le_of_ble_eq_true rfl)) (fun _ => ?_)
  refine xr_iload 1 F dX4_number_118 rfl ?_
  exact xr_iret F dX4_number_120
theorem fX4_number_p112_ok {x : xC} (F : xF x RX4 cX4_number (some .int)) (hnL : xnL x = 6) (hRm : ∃ dc ds, x.2.2.2.1 = { frames := 5, cells := dc, slots := ds, locals := 113 }) (hno : ∀ pc, xNo x pc) (hmn : xmn x = "number" ∧ xmy x yX4_number) (l3 : Int32) (l4 : Int32) (s0 : Nat) : xI x xeI 112 [(3, .int l3), (4, .int l4)] [va_rf (some s0)] (fX4_number_p112 l3 l4 s0) := by
  unfold fX4_number_p112
  refine xr_iconst (0 : Int32) F dX4_number_112 rfl ?_
  exact xI.sub [0, 1] rfl (fX4_number_p113_ok F hnL hRm hno hmn l3 l4 (0 : Int32) s0)
theorem fX4_number_p28_ok {x : xC} (F : xF x RX4 cX4_number (some .int)) (hnL : xnL x = 6) (hRm : ∃ dc ds, x.2.2.2.1 = { frames := 5, cells := dc, slots := ds, locals := 113 }) (hno : ∀ pc, xNo x pc) (hmn : xmn x = "number" ∧ xmy x yX4_number) : ∀ (n : Nat) (l0 : Nat) (l1 : Int32) (l2 : Int32) (l3 : Int32) (l4 : Int32) (l5 : Int32), xI x xeI 28 [(0, va_rf (some l0)), (1, .int l1), (2, .int l2), (3, .int l3), (4, .int l4), (5, .int l5)] [] (fX4_number_p28 n l0 l1 l2 l3 l4 l5) := by
  intro n
  induction n with
  | zero => intro l0 l1 l2 l3 l4 l5; exact xI.stuck
  | succ n ih =>
    intro l0 l1 l2 l3 l4 l5
    unfold fX4_number_p28
    refine xr_aload_n 0 (r := (some l0)) F dX4_number_28 rfl ?_
    refine xr_aload_n 0 (r := (some l0)) F dX4_number_29 rfl ?_
    refine xr_aload_n 0 (r := (some l0)) F dX4_number_30 rfl ?_
    refine xr_gI (r := (some l0)) (ref := "ReserveLedger$Parser") F dX4_number_31 (C := RX4) (T := TX4) (N := 5) rfl (by decide) (Or.inl q1756) (Or.inl rfl) (fun v31 => ?_)
    refine xr_VI (y := yX4_byteAt) (As := [.int v31]) (r := (some l0)) F (hno _) dX4_number_34 (fun z => fX4_byteAt_m (xFG F) z v31) (Or.inl rfl) (ci := 17) (C := RX4) (T := TX4) rfl q1782 q1779 q1781 qs15 (xroom hRm (Nat.le_of_ble_eq_true rfl) (Nat.le_of_ble_eq_true rfl)) ⟨by decide, by decide⟩ n_X4_byteAt rfl (xcat (Nat.le_of_ble_eq_true rfl)) (fun v34 => ?_)
    refine xr_VI (y := yX4_isDigit) (As := [.int v34]) (r := (some l0)) F (hno _) dX4_number_37 (fun z => fX4_isDigit_m (xFG F) z v34) (Or.inl rfl) (ci := 17) (C := RX4) (T := TX4) rfl q1806 q1803 q1805 qs19 (xroom hRm (Nat.le_of_ble_eq_true rfl) (Nat.le_of_ble_eq_true rfl)) ⟨by decide, by decide⟩ n_X4_isDigit rfl (xcat (Nat.le_of_ble_eq_true rfl)) (fun v37 => ?_)
    refine xr_if_eq 90 F dX4_number_40 rfl ?_ ?_
    · refine xr_aload_n 0 (r := (some l0)) F dX4_number_90 rfl ?_
      refine xr_iload 5 F dX4_number_91 rfl ?_
      refine xr_bipush (6 : Int32) F dX4_number_93 rfl ?_
      refine xr_icmp_gt 112 F dX4_number_95 rfl ?_ ?_
      · exact xI.sub [3, 4] rfl (fX4_number_p112_ok F hnL hRm hno hmn l3 l4 l0)
      · refine xr_iload 4 F dX4_number_98 rfl ?_
        refine xr_iload_n 1 F dX4_number_100 rfl ?_
        refine xr_iload_n 2 F dX4_number_101 rfl ?_
        refine xr_SI (y := yX1_inRange) (As := [.int l4, .int l1, .int l2]) F (hno _) dX4_number_102 (fX1_inRange_m (xFG F) l4 l1 l2) (Or.inl rfl) q646 q121 (Or.inr ⟨_, q1793⟩) q645 (xroom hRm (Nat.le_of_ble_eq_true rfl) (Nat.le_of_ble_eq_true rfl)) ⟨by decide, by decide⟩ n_X1_inRange rfl (xcat (Nat.le_of_ble_eq_true rfl)) (fun v102 => ?_)
        refine xr_if_eq 112 F dX4_number_105 rfl ?_ ?_
        · exact xI.sub [3, 4] rfl (fX4_number_p112_ok F hnL hRm hno hmn l3 l4 l0)
        · refine xr_iconst (1 : Int32) F dX4_number_108 rfl ?_
          refine xr_goto 113 F dX4_number_109 rfl ?_
          exact xI.sub [3, 4] rfl (fX4_number_p113_ok F hnL hRm hno hmn l3 l4 (1 : Int32) l0)
    · refine xr_iload 5 F dX4_number_43 rfl ?_
      refine xr_bipush (6 : Int32) F dX4_number_45 rfl ?_
      refine xr_icmp_ge 70 F dX4_number_47 rfl ?_ ?_
      · refine xr_iload 4 F dX4_number_70 rfl ?_
        exact xI.sub [0, 1, 2, 3, 5] rfl (fX4_number_p72_ok F hnL hRm hno hmn ih l0 l1 l2 l3 l5 l4)
      · refine xr_bipush (10 : Int32) F dX4_number_50 rfl ?_
        refine xr_iload 4 F dX4_number_52 rfl ?_
        refine xr_imul F dX4_number_54 ?_
        refine xr_aload_n 0 (r := (some l0)) F dX4_number_55 rfl ?_
        refine xr_aload_n 0 (r := (some l0)) F dX4_number_56 rfl ?_
        refine xr_gI (r := (some l0)) (ref := "ReserveLedger$Parser") F dX4_number_57 (C := RX4) (T := TX4) (N := 5) rfl (by decide) (Or.inl q1756) (Or.inl rfl) (fun v57 => ?_)
        refine xr_VI (y := yX4_byteAt) (As := [.int v57]) (r := (some l0)) F (hno _) dX4_number_60 (fun z => fX4_byteAt_m (xFG F) z v57) (Or.inl rfl) (ci := 17) (C := RX4) (T := TX4) rfl q1782 q1779 q1781 qs15 (xroom hRm (Nat.le_of_ble_eq_true rfl) (Nat.le_of_ble_eq_true rfl)) ⟨by decide, by decide⟩ n_X4_byteAt rfl (xcat (Nat.le_of_ble_eq_true rfl)) (fun v60 => ?_)
        refine xr_iadd F dX4_number_63 ?_
        refine xr_bipush (48 : Int32) F dX4_number_64 rfl ?_
        refine xr_isub F dX4_number_66 ?_
        refine xr_goto 72 F dX4_number_67 rfl ?_
        exact xI.sub [0, 1, 2, 3, 5] rfl (fX4_number_p72_ok F hnL hRm hno hmn ih l0 l1 l2 l3 l5 ((((10 : Int32) * l4) + v60) - (48 : Int32)))
theorem fX4_number_m {l : Launch} {D : xD} {s0 : State} {b0 : Nat} {Γ : Nat → Option Nat} (G : xG l D s0 b0 Γ) (a0 : Nat) (p0 : Int32) (p1 : Int32) : xMeth l D s0 Γ yX4_number (Cond.code yX4_number cX4_number 6 (some .int)) (5) (113) [.ref a0, .int p0, .int p1] xeI (fX4_number a0 p0 p1) := by
  refine xMeth.of (lv0 := [(0, va_rf (some a0)), (1, .int p0), (2, .int p1)]) G (by decide +kernel) (Or.inl rfl) (Nat.le_of_ble_eq_true rfl) rfl (fun x F hnL hRm hmn ht e1 e2 e3 e4 => ?_)
  have hno : ∀ pc, xNo x pc := fun pc z hz => by rw [ht.1 rfl] at hz; cases hz
  unfold fX4_number
  refine xr_aload_n 0 (r := (some a0)) F dX4_number_0 rfl ?_
  refine xr_aload_n 0 (r := (some a0)) F dX4_number_1 rfl ?_
  refine xr_aload_n 0 (r := (some a0)) F dX4_number_2 rfl ?_
  refine xr_VI (y := yX4_peek) (As := []) (r := (some a0)) F (hno _) dX4_number_3 (fun z => fX4_peek_m (xFG F) z) (Or.inl rfl) (ci := 17) (C := RX4) (T := TX4) rfl q1778 q1775 q1777 qs14 (xroom hRm (Nat.le_of_ble_eq_true rfl) (Nat.le_of_ble_eq_true rfl)) ⟨by decide, by decide⟩ n_X4_peek rfl (xcat (Nat.le_of_ble_eq_true rfl)) (fun v3 => ?_)
  refine xr_VI (y := yX4_isDigit) (As := [.int v3]) (r := (some a0)) F (hno _) dX4_number_6 (fun z => fX4_isDigit_m (xFG F) z v3) (Or.inl rfl) (ci := 17) (C := RX4) (T := TX4) rfl q1806 q1803 q1805 qs19 (xroom hRm (Nat.le_of_ble_eq_true rfl) (Nat.le_of_ble_eq_true rfl)) ⟨by decide, by decide⟩ n_X4_isDigit rfl (xcat (Nat.le_of_ble_eq_true rfl)) (fun v6 => ?_)
  refine xr_iconst (1 : Int32) F dX4_number_9 rfl ?_
  refine xr_aload_n 0 (r := (some a0)) F dX4_number_10 rfl ?_
  refine xr_gI (r := (some a0)) (ref := "ReserveLedger$Parser") F dX4_number_11 (C := RX4) (T := TX4) (N := 5) rfl (by decide) (Or.inl q1756) (Or.inl rfl) (fun v11 => ?_)
  refine xr_VV (y := yX4_require) (As := [.int v6, .int (1 : Int32), .int v11]) (r := (some a0)) F (hno _) dX4_number_14 (fun z => fX4_require_m (xFG F) z v6 (1 : Int32) v11) (Or.inl rfl) (ci := 17) (C := RX4) (T := TX4) rfl q1810 q1807 q1809 qs20 (xroom hRm (Nat.le_of_ble_eq_true rfl) (Nat.le_of_ble_eq_true rfl)) ⟨by decide, by decide⟩ n_X4_require rfl (xcat (Nat.le_of_ble_eq_true rfl)) (fun _ => ?_)
  refine xr_aload_n 0 (r := (some a0)) F dX4_number_17 rfl ?_
  refine xr_gI (r := (some a0)) (ref := "ReserveLedger$Parser") F dX4_number_18 (C := RX4) (T := TX4) (N := 5) rfl (by decide) (Or.inl q1756) (Or.inl rfl) (fun v18 => ?_)
  refine xs_i_n [0, 1, 2] F dX4_number_21 hnL rfl rfl (xk1 rfl rfl (xk1 rfl rfl (xk2 rfl rfl xk0))) ?_
  refine xr_iconst (0 : Int32) F dX4_number_22 rfl ?_
  refine xr_letI (fun x4_23 => ?_)
  refine xs_i [0, 1, 2, 3] F dX4_number_23 hnL rfl rfl (xk2 rfl rfl (xk1 rfl rfl (xk1 rfl rfl (xk1 rfl rfl xk0)))) ?_
  refine xr_iconst (0 : Int32) F dX4_number_25 rfl ?_
  refine xr_letI (fun x5_26 => ?_)
  refine xs_i [0, 1, 2, 3, 4] F dX4_number_26 hnL rfl rfl (xk2 rfl rfl (xk1 rfl rfl (xk1 rfl rfl (xk1 rfl rfl (xk1 rfl rfl xk0))))) ?_
  exact xI.sub [3, 4, 5, 2, 1, 0] rfl (fX4_number_p28_ok F hnL hRm hno hmn xFU a0 p0 p1 v18 x4_23 x5_26)
