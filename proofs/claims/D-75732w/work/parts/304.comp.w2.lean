theorem fJ9_equals_p36_ok {x : xC} (F : xF x RJ9 cJ9_equals (some .boolean)) (hnL : xnL x = 3) (hRm : ∃ dc ds, x.2.2.2.1 = { frames := 2, cells := dc, slots := ds, locals := 34 }) (hno : ∀ pc, xNo x pc) (hmn : xmn x = "equals" ∧ xmy x yJ9_equals) (l0 : Nat) (l2 : Option Nat) : xI x xeI 36 [(0, va_rf (some l0)), (2, va_rf l2)] [] (fJ9_equals_p36 l0 l2) := by
  unfold fJ9_equals_p36
  refine xr_aload_n 0 (r := (some l0)) F dJ9_equals_36 rfl ?_
  refine xr_gR (r := (some l0)) (ref := "java/lang/String") F dJ9_equals_37 (C := RJ9) (T := TJ9) (N := 4) rfl (by decide) (Or.inl q529) (Or.inl rfl) (fun v37 => ?_)
  refine xr_aload_n 1 (r := l2) F dJ9_equals_40 rfl ?_
  refine xr_gR (r := l2) (ref := "java/lang/String") F dJ9_equals_41 (C := RJ9) (T := TJ9) (N := 4) rfl (by decide) (Or.inl q529) (Or.inl rfl) (fun v41 => ?_)
  refine xr_SI (y := yJ15_equals) (As := [va_rf v37, va_rf v41]) F (hno _) dJ9_equals_44 (fJ15_equals_m (xFG F) v37 v41) (Or.inl rfl) q1153 q139 (Or.inl q1151) q1152 (xroom hRm (Nat.le_of_ble_eq_true rfl) (Nat.le_of_ble_eq_true rfl)) ⟨by decide, by decide⟩ n_J15_equals rfl (xcat (Nat.le_of_ble_eq_true rfl)) (fun v44 => ?_)
  refine xr_if_eq 54 F dJ9_equals_47 rfl ?_ ?_
  · refine xr_iconst (0 : Int32) F dJ9_equals_54 rfl ?_
    exact xr_zret F dJ9_equals_55 rfl
  · refine xr_iconst (1 : Int32) F dJ9_equals_50 rfl ?_
    refine xr_goto 55 F dJ9_equals_51 rfl ?_
    exact xr_zret F dJ9_equals_55 rfl
theorem fJ9_equals_m {l : Launch} {D : xD} {s0 : State} {b0 : Nat} {Γ : Nat → Option Nat} (G : xG l D s0 b0 Γ) (a0 : Nat) (p0 : Option Nat) : xMeth l D s0 Γ yJ9_equals (Cond.code yJ9_equals cJ9_equals 3 (some .boolean)) (2) (34) [.ref a0, va_rf p0] xeI (fJ9_equals a0 p0) := by
  refine xMeth.of (lv0 := [(0, va_rf (some a0)), (1, va_rf p0)]) G (by decide +kernel) (Or.inl rfl) (by simp [lg_sl, xrf_cat, xct_i, xct_l, xct_d, xct_r]) (by simp [lv_args, xrf_cat, xct_i, xct_l, xct_d, xct_r, xrf_some]) (fun x F hnL hRm hmn ht e1 e2 e3 e4 => ?_)
  have hno : ∀ pc, xNo x pc := fun pc z hz => by rw [ht.1 rfl] at hz; cases hz
  unfold fJ9_equals
  refine xr_aload_n 0 (r := (some a0)) F dJ9_equals_0 rfl ?_
  refine xr_aload_n 1 (r := p0) F dJ9_equals_1 rfl ?_
  refine xr_acmp_ne 7 F dJ9_equals_2 rfl ?_ ?_
  · refine xr_iconst (1 : Int32) F dJ9_equals_5 rfl ?_
    exact xr_zret F dJ9_equals_6 rfl
  · refine xr_aload_n 1 (r := p0) F dJ9_equals_7 rfl ?_
    refine xr_insE (ci := 5) (r := p0) F dJ9_equals_8 q1150 rfl (fun v8 => ?_)
    refine xr_if_eq 54 F dJ9_equals_11 rfl ?_ ?_
    · refine xr_iconst (0 : Int32) F dJ9_equals_54 rfl ?_
      exact xr_zret F dJ9_equals_55 rfl
    · refine xr_aload_n 1 (r := p0) F dJ9_equals_14 rfl ?_
      refine xr_castE (ci := 5) (r := p0) F dJ9_equals_15 q1150 rfl ?_
      refine xs_a_n [0] F dJ9_equals_18 hnL rfl rfl (xk1 rfl rfl xk0) ?_
      refine xr_gsi (k := 1) F dJ9_equals_19 rfl q388 ?_
      refine xr_if_eq 36 F dJ9_equals_22 rfl ?_ ?_
      · exact xI.sub [1, 0] rfl (fJ9_equals_p36_ok F hnL hRm hno hmn a0 p0)
      · refine xr_aload_n 1 (r := (some a0)) F dJ9_equals_25 rfl ?_
        refine xr_gI (r := (some a0)) (ref := "java/lang/String") F dJ9_equals_26 (C := RJ9) (T := TJ9) (N := 4) rfl (by decide) (Or.inl q530) (Or.inl rfl) (fun v26 => ?_)
        refine xr_aload_n 0 (r := p0) F dJ9_equals_29 rfl ?_
        refine xr_gI (r := p0) (ref := "java/lang/String") F dJ9_equals_30 (C := RJ9) (T := TJ9) (N := 4) rfl (by decide) (Or.inl q530) (Or.inl rfl) (fun v30 => ?_)
        refine xr_icmp_ne 54 F dJ9_equals_33 rfl ?_ ?_
        · exact xI.sub [1, 0] rfl (fJ9_equals_p36_ok F hnL hRm hno hmn a0 p0)
        · refine xr_iconst (0 : Int32) F dJ9_equals_54 rfl ?_
          exact xr_zret F dJ9_equals_55 rfl
theorem fX8_init_m {l : Launch} {D : xD} {s0 : State} {b0 : Nat} {Γ : Nat → Option Nat} (G : xG l D s0 b0 Γ) (a0 : Nat) (p0 : Int64) : xMeth l D s0 Γ yX8_init (Cond.code yX8_init cX8_init 3 none) (1) (20) [.ref a0, .long p0] xeV (fX8_init a0 p0) := by
  refine xMeth.of (lv0 := [(0, va_rf (some a0)), (1, .long p0)]) G (by decide +kernel) (Or.inl rfl) (Nat.le_of_ble_eq_true rfl) rfl (fun x F hnL hRm hmn ht e1 e2 e3 e4 => ?_)
  have hno : ∀ pc, xNo x pc := fun pc z hz => by rw [ht.1 rfl] at hz; cases hz
  unfold fX8_init
  refine xr_aload_n 0 (r := (some a0)) F dX8_init_0 rfl ?_
  refine xr_obj F dX8_init_1 q1873 q200 (q_objcode) (xroom hRm (Nat.le_of_ble_eq_true rfl) (Nat.le_of_ble_eq_true rfl)) (xcat (Nat.le_of_ble_eq_true rfl)) ?_
  refine xr_aload_n 0 (r := (some a0)) F dX8_init_4 rfl ?_
  refine xr_lload_n 1 F dX8_init_5 rfl ?_
  refine xr_put (r := (some a0)) (ref := "ReserveLedger$Literal") F dX8_init_6 xk_21 (by decide) (Or.inl q1874) (Or.inl rfl) (Or.inr ⟨rfl, hmn.1, rfl, q1874⟩) ⟨rfl, rfl⟩ ?_
  exact xr_vret F dX8_init_9
theorem fX4_factor_p227_ok {x : xC} {S : Nat → xM (Option Nat)} {frS loS : Nat} (hS : ∀ (b0_ : Nat), xMx x yX4_sum (Cond.code yX4_sum cX4_sum 3 (some (.object "ReserveLedger$Node"))) frS loS [.ref b0_] xeR (S b0_)) (F : xF x RX4 cX4_factor (some (.object "ReserveLedger$Node"))) (hnL : xnL x = 5) (hRm : ∃ dc ds, x.2.2.2.1 = { frames := frS + 8, cells := dc, slots := ds, locals := loS + 193 }) (hno : ∀ pc, xNo x pc) (hmn : xmn x = "factor" ∧ xmy x yX4_factor) (l0 : Nat) (l2 : Int32) (l4 : Int32) : xI x xeR 227 [(0, va_rf (some l0)), (2, .int l2), (4, .int l4)] [] (fX4_factor_p227 S l0 l2 l4) := by
  unfold fX4_factor_p227
  refine xr_iload 2 F dX4_factor_227 rfl ?_
  refine xI.split (fun h_0 => ?_) (fun h_0 => ?_)
  · refine xr_tableIn 268 F dX4_factor_229 (by rw [h_0]; decide) (by rw [h_0]; decide) (by rw [h_0]; rfl) rfl ?_
    refine xr_new F dX4_factor_268 xk_26 xdf_26 q2259 q2260 q164 (fun v268 => ?_)
    refine xr_dup F dX4_factor_271 (xrf_cat _) ?_
    refine xr_gs (k := 0) F dX4_factor_272 rfl q2261 (fun v272 => ?_)
    refine xr_IV (y := yX11_init) (As := [va_rf v272]) F (hno _) dX4_factor_275 (fX11_init_m (xFG F) v268 v272) rfl rfl q2265 (Or.inl q2263) q2264 (xroom hRm (by omega) (by omega)) ⟨by decide, by decide⟩ n_X11_init rfl (xcat (Nat.le_of_ble_eq_true rfl)) (fun _ => ?_)
    exact xr_aret (v := (some v268)) F dX4_factor_278 (Or.inl ⟨_, rfl⟩)
  · refine xI.split (fun h_1 => ?_) (fun h_1 => ?_)
    · refine xr_tableIn 279 F dX4_factor_229 (by rw [h_1]; decide) (by rw [h_1]; decide) (by rw [h_1]; rfl) rfl ?_
      refine xr_new F dX4_factor_279 xk_26 xdf_26 q2259 q2260 q164 (fun v279 => ?_)
      refine xr_dup F dX4_factor_282 (xrf_cat _) ?_
      refine xr_gs (k := 1) F dX4_factor_283 rfl q2271 (fun v283 => ?_)
      refine xr_IV (y := yX11_init) (As := [va_rf v283]) F (hno _) dX4_factor_286 (fX11_init_m (xFG F) v279 v283) rfl rfl q2265 (Or.inl q2263) q2264 (xroom hRm (by omega) (by omega)) ⟨by decide, by decide⟩ n_X11_init rfl (xcat (Nat.le_of_ble_eq_true rfl)) (fun _ => ?_)
      exact xr_aret (v := (some v279)) F dX4_factor_289 (Or.inl ⟨_, rfl⟩)
    · refine xI.split (fun h_2 => ?_) (fun h_2 => ?_)
      · refine xr_tableIn 290 F dX4_factor_229 (by rw [h_2]; decide) (by rw [h_2]; decide) (by rw [h_2]; rfl) rfl ?_
        refine xr_new F dX4_factor_290 xk_26 xdf_26 q2259 q2260 q164 (fun v290 => ?_)
        refine xr_dup F dX4_factor_293 (xrf_cat _) ?_
        refine xr_gs (k := 2) F dX4_factor_294 rfl q2273 (fun v294 => ?_)
        refine xr_IV (y := yX11_init) (As := [va_rf v294]) F (hno _) dX4_factor_297 (fX11_init_m (xFG F) v290 v294) rfl rfl q2265 (Or.inl q2263) q2264 (xroom hRm (by omega) (by omega)) ⟨by decide, by decide⟩ n_X11_init rfl (xcat (Nat.le_of_ble_eq_true rfl)) (fun _ => ?_)
        exact xr_aret (v := (some v290)) F dX4_factor_300 (Or.inl ⟨_, rfl⟩)
      · refine xI.split (fun h_3 => ?_) (fun h_3 => ?_)
        · refine xr_tableIn 301 F dX4_factor_229 (by rw [h_3]; decide) (by rw [h_3]; decide) (by rw [h_3]; rfl) rfl ?_
          refine xr_new F dX4_factor_301 xk_26 xdf_26 q2259 q2260 q164 (fun v301 => ?_)
          refine xr_dup F dX4_factor_304 (xrf_cat _) ?_
          refine xr_gs (k := 3) F dX4_factor_305 rfl q2275 (fun v305 => ?_)
          refine xr_IV (y := yX11_init) (As := [va_rf v305]) F (hno _) dX4_factor_308 (fX11_init_m (xFG F) v301 v305) rfl rfl q2265 (Or.inl q2263) q2264 (xroom hRm (by omega) (by omega)) ⟨by decide, by decide⟩ n_X11_init rfl (xcat (Nat.le_of_ble_eq_true rfl)) (fun _ => ?_)
          exact xr_aret (v := (some v301)) F dX4_factor_311 (Or.inl ⟨_, rfl⟩)
        · refine xI.split (fun h_4 => ?_) (fun h_4 => ?_)
          · refine xr_tableIn 312 F dX4_factor_229 (by rw [h_4]; decide) (by rw [h_4]; decide) (by rw [h_4]; rfl) rfl ?_
            refine xr_aload_n 0 (r := (some l0)) F dX4_factor_312 rfl ?_
            refine xr_gs (k := 8) F dX4_factor_313 rfl q2277 (fun v313 => ?_)
            refine xr_VR (y := yX4_choice) (As := [va_rf v313]) (r := (some l0)) F (hno _) dX4_factor_316 (fun z => fX4_choice_m (xFG F) hS z v313) (Or.inl rfl) (ci := 17) (C := RX4) (T := TX4) rfl q2282 q2279 q2281 qs32 (xroom hRm (by omega) (by omega)) ⟨by decide, by decide⟩ n_X4_choice rfl (xcat (Nat.le_of_ble_eq_true rfl)) (fun v316 => ?_)
            exact xr_aret (v := v316) F dX4_factor_319 (Or.inl ⟨_, rfl⟩)
          · refine xI.split (fun h_5 => ?_) (fun h_5 => ?_)
            · refine xr_tableIn 320 F dX4_factor_229 (by rw [h_5]; decide) (by rw [h_5]; decide) (by rw [h_5]; rfl) rfl ?_
              refine xr_aload_n 0 (r := (some l0)) F dX4_factor_320 rfl ?_
              refine xr_gs (k := 9) F dX4_factor_321 rfl q2299 (fun v321 => ?_)
              refine xr_VR (y := yX4_choice) (As := [va_rf v321]) (r := (some l0)) F (hno _) dX4_factor_324 (fun z => fX4_choice_m (xFG F) hS z v321) (Or.inl rfl) (ci := 17) (C := RX4) (T := TX4) rfl q2282 q2279 q2281 qs32 (xroom hRm (by omega) (by omega)) ⟨by decide, by decide⟩ n_X4_choice rfl (xcat (Nat.le_of_ble_eq_true rfl)) (fun v324 => ?_)
              exact xr_aret (v := v324) F dX4_factor_327 (Or.inl ⟨_, rfl⟩)
            · refine xr_tableOut 328 F dX4_factor_229 (by intro i g1 g2; have g3 : i = 0 ∨ i = 1 ∨ i = 2 ∨ i = 3 ∨ i = 4 ∨ i = 5 := (by omega); rcases g3 with rfl | rfl | rfl | rfl | rfl | rfl; all_goals assumption) rfl ?_
              refine xr_new F dX4_factor_328 xk_18 xdf_18 q1811 q1812 q146 (fun v328 => ?_)
              refine xr_dup F dX4_factor_331 (xrf_cat _) ?_
              refine xr_iconst (1 : Int32) F dX4_factor_332 rfl ?_
              refine xr_iload_n 1 F dX4_factor_333 rfl ?_
              refine xr_IV (y := yX5_init) (As := [.int (1 : Int32), .int l2]) F (hno _) dX4_factor_334 (fX5_init_m (xFG F) v328 (1 : Int32) l2) rfl rfl q1822 (Or.inl q1820) q1821 (xroom hRm (by omega) (by omega)) ⟨by decide, by decide⟩ n_X5_init rfl (xcat (Nat.le_of_ble_eq_true rfl)) (fun _ => ?_)
              exact xr_throw (r := (some v328)) F dX4_factor_337 (hno _)
theorem fX4_factor_m {l : Launch} {D : xD} {s0 : State} {b0 : Nat} {Γ : Nat → Option Nat} (G : xG l D s0 b0 Γ) {S : Nat → xM (Option Nat)} {frS loS : Nat} (hS : ∀ (b0_ : Nat), xMeth l D s0 Γ yX4_sum (Cond.code yX4_sum cX4_sum 3 (some (.object "ReserveLedger$Node"))) frS loS [.ref b0_] xeR (S b0_)) (a0 : Nat) : xMeth l D s0 Γ yX4_factor (Cond.code yX4_factor cX4_factor 5 (some (.object "ReserveLedger$Node"))) (frS + 8) (loS + 193) [.ref a0] xeR (fX4_factor S a0) := by
  refine xMeth.of (lv0 := [(0, va_rf (some a0))]) G (by decide +kernel) (Or.inl rfl) (Nat.le_of_ble_eq_true rfl) rfl (fun x F hnL hRm hmn ht e1 e2 e3 e4 => ?_)
  have hno : ∀ pc, xNo x pc := fun pc z hz => by rw [ht.1 rfl] at hz; cases hz
  have hS : ∀ (b0_ : Nat), xMx x yX4_sum (Cond.code yX4_sum cX4_sum 3 (some (.object "ReserveLedger$Node"))) frS loS [.ref b0_] xeR (S b0_) := by
    intro b0_
    unfold xMx
    rw [e1, e2, e3, e4]
    exact hS b0_
  unfold fX4_factor
  refine xr_aload_n 0 (r := (some a0)) F dX4_factor_0 rfl ?_
  refine xr_VI (y := yX4_peek) (As := []) (r := (some a0)) F (hno _) dX4_factor_1 (fun z => fX4_peek_m (xFG F) z) (Or.inl rfl) (ci := 17) (C := RX4) (T := TX4) rfl q1778 q1775 q1777 qs14 (xroom hRm (by omega) (by omega)) ⟨by decide, by decide⟩ n_X4_peek rfl (xcat (Nat.le_of_ble_eq_true rfl)) (fun v1 => ?_)
  refine xr_bipush (40 : Int32) F dX4_factor_4 rfl ?_
  refine xr_icmp_ne 24 F dX4_factor_6 rfl ?_ ?_
  · refine xr_aload_n 0 (r := (some a0)) F dX4_factor_9 rfl ?_
    refine xr_VV (y := yX4_open) (As := []) (r := (some a0)) F (hno _) dX4_factor_10 (fun z => fX4_open_m (xFG F) z) (Or.inl rfl) (ci := 17) (C := RX4) (T := TX4) rfl q2242 q2239 q2241 qs29 (xroom hRm (by omega) (by omega)) ⟨by decide, by decide⟩ n_X4_open rfl (xcat (Nat.le_of_ble_eq_true rfl)) (fun _ => ?_)
    refine xr_aload_n 0 (r := (some a0)) F dX4_factor_13 rfl ?_
    refine xr_VR (y := yX4_sum) (As := []) (r := (some a0)) F (hno _) dX4_factor_14 (fun z => hS z) (Or.inl rfl) (ci := 17) (C := RX4) (T := TX4) rfl q2230 q2227 q2229 qs26 (xroom hRm (by omega) (by omega)) ⟨by decide, by decide⟩ n_X4_sum rfl (xcat (Nat.le_of_ble_eq_true rfl)) (fun v14 => ?_)
    refine xs_a_n [0] F dX4_factor_17 hnL rfl rfl (xk2 rfl (xrf_cat _) xk0) ?_
    refine xr_aload_n 1 (r := (some a0)) F dX4_factor_18 rfl ?_
    refine xr_VV (y := yX4_close) (As := []) (r := (some a0)) F (hno _) dX4_factor_19 (fun z => fX4_close_m (xFG F) z) (Or.inl rfl) (ci := 17) (C := RX4) (T := TX4) rfl q2246 q2243 q2245 qs30 (xroom hRm (by omega) (by omega)) ⟨by decide, by decide⟩ n_X4_close rfl (xcat (Nat.le_of_ble_eq_true rfl)) (fun _ => ?_)
    refine xr_aload_n 0 (r := v14) F dX4_factor_22 rfl ?_
    exact xr_aret (v := v14) F dX4_factor_23 (Or.inl ⟨_, rfl⟩)
  · refine xr_aload_n 0 (r := (some a0)) F dX4_factor_24 rfl ?_
    refine xr_aload_n 0 (r := (some a0)) F dX4_factor_25 rfl ?_
    refine xr_VI (y := yX4_peek) (As := []) (r := (some a0)) F (hno _) dX4_factor_26 (fun z => fX4_peek_m (xFG F) z) (Or.inl rfl) (ci := 17) (C := RX4) (T := TX4) rfl q1778 q1775 q1777 qs14 (xroom hRm (by omega) (by omega)) ⟨by decide, by decide⟩ n_X4_peek rfl (xcat (Nat.le_of_ble_eq_true rfl)) (fun v26 => ?_)
    refine xr_VI (y := yX4_isDigit) (As := [.int v26]) (r := (some a0)) F (hno _) dX4_factor_29 (fun z => fX4_isDigit_m (xFG F) z v26) (Or.inl rfl) (ci := 17) (C := RX4) (T := TX4) rfl q1806 q1803 q1805 qs19 (xroom hRm (by omega) (by omega)) ⟨by decide, by decide⟩ n_X4_isDigit rfl (xcat (Nat.le_of_ble_eq_true rfl)) (fun v29 => ?_)
    refine xr_if_eq 51 F dX4_factor_32 rfl ?_ ?_
    · refine xr_aload_n 0 (r := (some a0)) F dX4_factor_51 rfl ?_
      refine xr_VR (y := yX4_word) (As := []) (r := (some a0)) F (hno _) dX4_factor_52 (fun z => fX4_word_m (xFG F) z) (Or.inl rfl) (ci := 17) (C := RX4) (T := TX4) rfl q1790 q1787 q1789 qs17 (xroom hRm (by omega) (by omega)) ⟨by decide, by decide⟩ n_X4_word rfl (xcat (Nat.le_of_ble_eq_true rfl)) (fun v52 => ?_)
      refine xs_a_n [0] F dX4_factor_55 hnL rfl rfl (xk2 rfl (xrf_cat _) xk0) ?_
      refine xr_aload_n 1 (r := (some a0)) F dX4_factor_56 rfl ?_
      refine xr_gI (r := (some a0)) (ref := "ReserveLedger$Parser") F dX4_factor_57 (C := RX4) (T := TX4) (N := 5) rfl (by decide) (Or.inl q1756) (Or.inl rfl) (fun v57 => ?_)
      refine xs_i_n [0, 1] F dX4_factor_60 hnL rfl rfl (xk2 rfl (xrf_cat _) (xk1 rfl rfl xk0)) ?_
      refine xr_aload_n 2 (r := (some a0)) F dX4_factor_61 rfl ?_
      refine xr_dup F dX4_factor_62 (xrf_cat _) ?_
      refine xr_gI (r := (some a0)) (ref := "ReserveLedger$Parser") F dX4_factor_63 (C := RX4) (T := TX4) (N := 5) rfl (by decide) (Or.inl q1756) (Or.inl rfl) (fun v63 => ?_)
      refine xr_aload_n 1 (r := v52) F dX4_factor_66 rfl ?_
      refine xr_VI (y := yJ9_length) (As := []) (r := v52) F (hno _) dX4_factor_67 (fun z => fJ9_length_m (xFG F) z) (Or.inl rfl) (ci := 5) (C := RJ9) (T := TJ9) rfl q383 q1796 q381 q382 (xroom hRm (by omega) (by omega)) ⟨by decide, by decide⟩ n_J9_length rfl (xcat (Nat.le_of_ble_eq_true rfl)) (fun v67 => ?_)
      refine xr_iadd F dX4_factor_70 ?_
      refine xr_put (r := (some a0)) (ref := "ReserveLedger$Parser") F dX4_factor_71 xk_17 (by decide) (Or.inl q1756) (Or.inl rfl) (Or.inl rfl) ⟨rfl, rfl⟩ ?_
      refine xr_aload_n 1 (r := v52) F dX4_factor_74 rfl ?_
      refine xs_a_n [0, 2] F dX4_factor_75 hnL rfl rfl (xk2 rfl rfl (xk1 rfl rfl xk0)) ?_
      refine xr_iconst (-1 : Int32) F dX4_factor_76 rfl ?_
      refine xr_letI (fun x4_77 => ?_)
      refine xs_i [0, 1, 2] F dX4_factor_77 hnL rfl rfl (xk2 rfl (xrf_cat _) (xk1 rfl rfl (xk1 rfl rfl xk0))) ?_
      refine xr_aload_n 1 (r := v52) F dX4_factor_79 rfl ?_
      refine xr_VI (y := yJ9_hashCode) (As := []) (r := v52) F (hno _) dX4_factor_80 (fun z => fJ9_hashCode_m (xFG F) z) (Or.inl rfl) (ci := 5) (C := RJ9) (T := TJ9) rfl q2162 q2159 q2160 q2161 (xroom hRm (by omega) (by omega)) ⟨by decide, by decide⟩ n_J9_hashCode rfl (xcat (Nat.le_of_ble_eq_true rfl)) (fun v80 => ?_)
      refine xI.split (fun h_0 => ?_) (fun h_0 => ?_)
      · refine xr_lookup (off := 72) 155 F dX4_factor_83 (by decide) (by first | (rw [h_0]; done) | (rw [h_0]; rfl)) rfl ?_
        refine xr_aload_n 1 (r := v52) F dX4_factor_155 rfl ?_
        refine xr_str (k := 10) F dX4_factor_156 rfl (fun v156 => ?_)
        refine xr_VI (y := yJ9_equals) (As := [va_rf v156]) (r := v52) F (hno _) dX4_factor_158 (fun z => fJ9_equals_m (xFG F) z v156) (Or.inl rfl) (ci := 5) (C := RJ9) (T := TJ9) rfl q1149 q1798 q1147 q1148 (xroom hRm (by omega) (by omega)) ⟨by decide, by decide⟩ n_J9_equals rfl (xcat (Nat.le_of_ble_eq_true rfl)) (fun v158 => ?_)
        refine xr_if_eq 227 F dX4_factor_161 rfl ?_ ?_
        · exact xI.sub [3, 2, 0] rfl (fX4_factor_p227_ok hS F hnL hRm hno hmn a0 v57 x4_77)
        · refine xr_iconst (1 : Int32) F dX4_factor_164 rfl ?_
          refine xr_letI (fun x4_165 => ?_)
          refine xs_i [2, 3] F dX4_factor_165 hnL rfl rfl (xk1 rfl rfl (xk1 rfl rfl xk0)) ?_
          refine xr_goto 227 F dX4_factor_167 rfl ?_
          exact xI.sub [2, 1, 0] rfl (fX4_factor_p227_ok hS F hnL hRm hno hmn a0 v57 x4_165)
      · refine xI.split (fun h_1 => ?_) (fun h_1 => ?_)
        · refine xr_lookup (off := 132) 215 F dX4_factor_83 (by decide) (by first | (rw [h_1]; done) | (rw [h_1]; rfl)) rfl ?_
          refine xr_aload_n 1 (r := v52) F dX4_factor_215 rfl ?_
          refine xr_str (k := 13) F dX4_factor_216 rfl (fun v216 => ?_)
          refine xr_VI (y := yJ9_equals) (As := [va_rf v216]) (r := v52) F (hno _) dX4_factor_218 (fun z => fJ9_equals_m (xFG F) z v216) (Or.inl rfl) (ci := 5) (C := RJ9) (T := TJ9) rfl q1149 q1798 q1147 q1148 (xroom hRm (by omega) (by omega)) ⟨by decide, by decide⟩ n_J9_equals rfl (xcat (Nat.le_of_ble_eq_true rfl)) (fun v218 => ?_)
          refine xr_if_eq 227 F dX4_factor_221 rfl ?_ ?_
          · exact xI.sub [3, 2, 0] rfl (fX4_factor_p227_ok hS F hnL hRm hno hmn a0 v57 x4_77)
          · refine xr_iconst (5 : Int32) F dX4_factor_224 rfl ?_
            refine xr_letI (fun x4_225 => ?_)
            refine xs_i [2, 3] F dX4_factor_225 hnL rfl rfl (xk1 rfl rfl (xk1 rfl rfl xk0)) ?_
            exact xI.sub [2, 1, 0] rfl (fX4_factor_p227_ok hS F hnL hRm hno hmn a0 v57 x4_225)
        · refine xI.split (fun h_2 => ?_) (fun h_2 => ?_)
          · refine xr_lookup (off := 117) 200 F dX4_factor_83 (by decide) (by first | (rw [h_2]; done) | (rw [h_2]; rfl)) rfl ?_
            refine xr_aload_n 1 (r := v52) F dX4_factor_200 rfl ?_
            refine xr_str (k := 12) F dX4_factor_201 rfl (fun v201 => ?_)
            refine xr_VI (y := yJ9_equals) (As := [va_rf v201]) (r := v52) F (hno _) dX4_factor_203 (fun z => fJ9_equals_m (xFG F) z v201) (Or.inl rfl) (ci := 5) (C := RJ9) (T := TJ9) rfl q1149 q1798 q1147 q1148 (xroom hRm (by omega) (by omega)) ⟨by decide, by decide⟩ n_J9_equals rfl (xcat (Nat.le_of_ble_eq_true rfl)) (fun v203 => ?_)
            refine xr_if_eq 227 F dX4_factor_206 rfl ?_ ?_
            · exact xI.sub [3, 2, 0] rfl (fX4_factor_p227_ok hS F hnL hRm hno hmn a0 v57 x4_77)
            · refine xr_iconst (4 : Int32) F dX4_factor_209 rfl ?_
              refine xr_letI (fun x4_210 => ?_)
              refine xs_i [2, 3] F dX4_factor_210 hnL rfl rfl (xk1 rfl rfl (xk1 rfl rfl xk0)) ?_
              refine xr_goto 227 F dX4_factor_212 rfl ?_
              exact xI.sub [2, 1, 0] rfl (fX4_factor_p227_ok hS F hnL hRm hno hmn a0 v57 x4_210)
          · refine xI.split (fun h_3 => ?_) (fun h_3 => ?_)
            · refine xr_lookup (off := 102) 185 F dX4_factor_83 (by decide) (by first | (rw [h_3]; done) | (rw [h_3]; rfl)) rfl ?_
              refine xr_aload_n 1 (r := v52) F dX4_factor_185 rfl ?_
              refine xr_str (k := 1) F dX4_factor_186 rfl (fun v186 => ?_)
              refine xr_VI (y := yJ9_equals) (As := [va_rf v186]) (r := v52) F (hno _) dX4_factor_188 (fun z => fJ9_equals_m (xFG F) z v186) (Or.inl rfl) (ci := 5) (C := RJ9) (T := TJ9) rfl q1149 q1798 q1147 q1148 (xroom hRm (by omega) (by omega)) ⟨by decide, by decide⟩ n_J9_equals rfl (xcat (Nat.le_of_ble_eq_true rfl)) (fun v188 => ?_)
              refine xr_if_eq 227 F dX4_factor_191 rfl ?_ ?_
              · exact xI.sub [3, 2, 0] rfl (fX4_factor_p227_ok hS F hnL hRm hno hmn a0 v57 x4_77)
              · refine xr_iconst (3 : Int32) F dX4_factor_194 rfl ?_
                refine xr_letI (fun x4_195 => ?_)
                refine xs_i [2, 3] F dX4_factor_195 hnL rfl rfl (xk1 rfl rfl (xk1 rfl rfl xk0)) ?_
                refine xr_goto 227 F dX4_factor_197 rfl ?_
                exact xI.sub [2, 1, 0] rfl (fX4_factor_p227_ok hS F hnL hRm hno hmn a0 v57 x4_195)
            · refine xI.split (fun h_4 => ?_) (fun h_4 => ?_)
              · refine xr_lookup (off := 57) 140 F dX4_factor_83 (by decide) (by first | (rw [h_4]; done) | (rw [h_4]; rfl)) rfl ?_
                refine xr_aload_n 1 (r := v52) F dX4_factor_140 rfl ?_
                refine xr_str (k := 9) F dX4_factor_141 rfl (fun v141 => ?_)
                refine xr_VI (y := yJ9_equals) (As := [va_rf v141]) (r := v52) F (hno _) dX4_factor_143 (fun z => fJ9_equals_m (xFG F) z v141) (Or.inl rfl) (ci := 5) (C := RJ9) (T := TJ9) rfl q1149 q1798 q1147 q1148 (xroom hRm (by omega) (by omega)) ⟨by decide, by decide⟩ n_J9_equals rfl (xcat (Nat.le_of_ble_eq_true rfl)) (fun v143 => ?_)
                refine xr_if_eq 227 F dX4_factor_146 rfl ?_ ?_
                · exact xI.sub [3, 2, 0] rfl (fX4_factor_p227_ok hS F hnL hRm hno hmn a0 v57 x4_77)
                · refine xr_iconst (0 : Int32) F dX4_factor_149 rfl ?_
                  refine xr_letI (fun x4_150 => ?_)
                  refine xs_i [2, 3] F dX4_factor_150 hnL rfl rfl (xk1 rfl rfl (xk1 rfl rfl xk0)) ?_
                  refine xr_goto 227 F dX4_factor_152 rfl ?_
                  exact xI.sub [2, 1, 0] rfl (fX4_factor_p227_ok hS F hnL hRm hno hmn a0 v57 x4_150)
              · refine xI.split (fun h_5 => ?_) (fun h_5 => ?_)
                · refine xr_lookup (off := 87) 170 F dX4_factor_83 (by decide) (by first | (rw [h_5]; done) | (rw [h_5]; rfl)) rfl ?_
                  refine xr_aload_n 1 (r := v52) F dX4_factor_170 rfl ?_
                  refine xr_str (k := 11) F dX4_factor_171 rfl (fun v171 => ?_)
                  refine xr_VI (y := yJ9_equals) (As := [va_rf v171]) (r := v52) F (hno _) dX4_factor_173 (fun z => fJ9_equals_m (xFG F) z v171) (Or.inl rfl) (ci := 5) (C := RJ9) (T := TJ9) rfl q1149 q1798 q1147 q1148 (xroom hRm (by omega) (by omega)) ⟨by decide, by decide⟩ n_J9_equals rfl (xcat (Nat.le_of_ble_eq_true rfl)) (fun v173 => ?_)
                  refine xr_if_eq 227 F dX4_factor_176 rfl ?_ ?_
                  · exact xI.sub [3, 2, 0] rfl (fX4_factor_p227_ok hS F hnL hRm hno hmn a0 v57 x4_77)
                  · refine xr_iconst (2 : Int32) F dX4_factor_179 rfl ?_
                    refine xr_letI (fun x4_180 => ?_)
                    refine xs_i [2, 3] F dX4_factor_180 hnL rfl rfl (xk1 rfl rfl (xk1 rfl rfl xk0)) ?_
                    refine xr_goto 227 F dX4_factor_182 rfl ?_
                    exact xI.sub [2, 1, 0] rfl (fX4_factor_p227_ok hS F hnL hRm hno hmn a0 v57 x4_180)
                · refine xr_lookup (off := 144) 227 F dX4_factor_83 (by decide) ((lv_osw (a := -1421994503) h_0 (by decide)).trans ((lv_osw (a := 107876) h_1 (by decide)).trans ((lv_osw (a := 108114) h_2 (by decide)).trans ((lv_osw (a := 3704893) h_3 (by decide)).trans ((lv_osw (a := 110549828) h_4 (by decide)).trans ((lv_osw (a := 1845630185) h_5 (by decide)).trans rfl)))))) rfl ?_
                  exact xI.sub [3, 2, 0] rfl (fX4_factor_p227_ok hS F hnL hRm hno hmn a0 v57 x4_77)
    · refine xr_new F dX4_factor_35 xk_21 xdf_21 q2251 q1869 q160 (fun v35 => ?_)
      refine xr_dup F dX4_factor_38 (xrf_cat _) ?_
      refine xr_aload_n 0 (r := (some a0)) F dX4_factor_39 rfl ?_
      refine xr_iconst (0 : Int32) F dX4_factor_40 rfl ?_
      refine xr_ldc F dX4_factor_41 q2252 ?_
      refine xr_VI (y := yX4_number) (As := [.int (0 : Int32), .int (999999 : Int32)]) (r := (some a0)) F (hno _) dX4_factor_43 (fun z => fX4_number_m (xFG F) z (0 : Int32) (999999 : Int32)) (Or.inl rfl) (ci := 17) (C := RX4) (T := TX4) rfl q1802 q1799 q1801 qs18 (xroom hRm (by omega) (by omega)) ⟨by decide, by decide⟩ n_X4_number rfl (xcat (Nat.le_of_ble_eq_true rfl)) (fun v43 => ?_)
      refine xr_i2l F dX4_factor_46 ?_
      refine xr_IV (y := yX8_init) (As := [.long v43.toInt64]) F (hno _) dX4_factor_47 (fX8_init_m (xFG F) v35 v43.toInt64) rfl rfl q1872 (Or.inl q2253) q1871 (xroom hRm (by omega) (by omega)) ⟨by decide, by decide⟩ n_X8_init rfl (xcat (Nat.le_of_ble_eq_true rfl)) (fun _ => ?_)
      exact xr_aret (v := (some v35)) F dX4_factor_50 (Or.inl ⟨_, rfl⟩)
theorem fX4_term_p41_ok {x : xC} {S : Nat → xM (Option Nat)} {frS loS : Nat} (hS : ∀ (b0_ : Nat), xMx x yX4_sum (Cond.code yX4_sum cX4_sum 3 (some (.object "ReserveLedger$Node"))) frS loS [.ref b0_] xeR (S b0_)) (F : xF x RX4 cX4_term (some (.object "ReserveLedger$Node"))) (hnL : xnL x = 3) (hRm : ∃ dc ds, x.2.2.2.1 = { frames := frS + 9, cells := dc, slots := ds, locals := loS + 217 }) (hno : ∀ pc, xNo x pc) (hmn : xmn x = "term" ∧ xmy x yX4_term) {k5 : Nat → Option Nat → xM (Option Nat)} (hk5 : ∀ (l0 : Nat) (l1 : Option Nat), xI x xeR 5 [(0, va_rf (some l0)), (1, va_rf l1)] [] (k5 l0 l1)) (l0 : Nat) (l1 : Option Nat) (s0 : Option Nat) : xI x xeR 41 [(0, va_rf (some l0)), (1, va_rf l1)] [va_rf s0] (fX4_term_p41 S k5 l0 l1 s0) := by
  unfold fX4_term_p41
  refine xs_a_n [0, 1] F dX4_term_41 hnL rfl rfl (xk1 rfl rfl (xk2 rfl (xrf_cat _) xk0)) ?_
  refine xr_aload_n 1 (r := (some l0)) F dX4_term_42 rfl ?_
  refine xr_dup F dX4_term_43 (xrf_cat _) ?_
  refine xr_gI (r := (some l0)) (ref := "ReserveLedger$Parser") F dX4_term_44 (C := RX4) (T := TX4) (N := 5) rfl (by decide) (Or.inl q1756) (Or.inl rfl) (fun v44 => ?_)
  refine xr_iconst (1 : Int32) F dX4_term_47 rfl ?_
  refine xr_iadd F dX4_term_48 ?_
  refine xr_put (r := (some l0)) (ref := "ReserveLedger$Parser") F dX4_term_49 xk_17 (by decide) (Or.inl q1756) (Or.inl rfl) (Or.inl rfl) ⟨rfl, rfl⟩ ?_
  refine xr_new F dX4_term_52 xk_27 xdf_27 q2283 q2284 q168 (fun v52 => ?_)
  refine xr_dup F dX4_term_55 (xrf_cat _) ?_
  refine xr_aload_n 0 (r := s0) F dX4_term_56 rfl ?_
  refine xr_aload_n 2 (r := l1) F dX4_term_57 rfl ?_
  refine xr_aload_n 1 (r := (some l0)) F dX4_term_58 rfl ?_
  refine xr_VR (y := yX4_factor) (As := []) (r := (some l0)) F (hno _) dX4_term_59 (fun z => fX4_factor_m (xFG F) hS z) (Or.inl rfl) (ci := 17) (C := RX4) (T := TX4) rfl q2238 q2235 q2237 qs28 (xroom hRm (by omega) (by omega)) ⟨by decide, by decide⟩ n_X4_factor rfl (xcat (Nat.le_of_ble_eq_true rfl)) (fun v59 => ?_)
  refine xr_IV (y := yX12_init) (As := [va_rf s0, va_rf l1, va_rf v59]) F (hno _) dX4_term_62 (fX12_init_m (xFG F) v52 s0 l1 v59) rfl rfl q2287 (Or.inl q2285) q2286 (xroom hRm (by omega) (by omega)) ⟨by decide, by decide⟩ n_X12_init rfl (xcat (Nat.le_of_ble_eq_true rfl)) (fun _ => ?_)
  refine xs_a_n [1] F dX4_term_65 hnL rfl rfl (xk2 rfl (xrf_cat _) xk0) ?_
  refine xr_goto 5 F dX4_term_66 rfl ?_
  exact xI.sub [1, 0] rfl (hk5 l0 (some v52))
theorem fX4_term_p23_ok {x : xC} {S : Nat → xM (Option Nat)} {frS loS : Nat} (hS : ∀ (b0_ : Nat), xMx x yX4_sum (Cond.code yX4_sum cX4_sum 3 (some (.object "ReserveLedger$Node"))) frS loS [.ref b0_] xeR (S b0_)) (F : xF x RX4 cX4_term (some (.object "ReserveLedger$Node"))) (hnL : xnL x = 3) (hRm : ∃ dc ds, x.2.2.2.1 = { frames := frS + 9, cells := dc, slots := ds, locals := loS + 217 }) (hno : ∀ pc, xNo x pc) (hmn : xmn x = "term" ∧ xmy x yX4_term) {k5 : Nat → Option Nat → xM (Option Nat)} (hk5 : ∀ (l0 : Nat) (l1 : Option Nat), xI x xeR 5 [(0, va_rf (some l0)), (1, va_rf l1)] [] (k5 l0 l1)) (l0 : Nat) (l1 : Option Nat) : xI x xeR 23 [(0, va_rf (some l0)), (1, va_rf l1)] [] (fX4_term_p23 S k5 l0 l1) := by
  unfold fX4_term_p23
  refine xr_aload_n 0 (r := (some l0)) F dX4_term_23 rfl ?_
  refine xr_VI (y := yX4_peek) (As := []) (r := (some l0)) F (hno _) dX4_term_24 (fun z => fX4_peek_m (xFG F) z) (Or.inl rfl) (ci := 17) (C := RX4) (T := TX4) rfl q1778 q1775 q1777 qs14 (xroom hRm (by omega) (by omega)) ⟨by decide, by decide⟩ n_X4_peek rfl (xcat (Nat.le_of_ble_eq_true rfl)) (fun v24 => ?_)
  refine xr_bipush (42 : Int32) F dX4_term_27 rfl ?_
  refine xr_icmp_ne 38 F dX4_term_29 rfl ?_ ?_
  · refine xr_gs (k := 6) F dX4_term_32 rfl q2301 (fun v32 => ?_)
    refine xr_goto 41 F dX4_term_35 rfl ?_
    exact xI.sub [0, 1] rfl (fX4_term_p41_ok hS F hnL hRm hno hmn hk5 l0 l1 v32)
  · refine xr_gs (k := 7) F dX4_term_38 rfl q2303 (fun v38 => ?_)
    exact xI.sub [0, 1] rfl (fX4_term_p41_ok hS F hnL hRm hno hmn hk5 l0 l1 v38)
theorem fX4_term_p5_ok {x : xC} {S : Nat → xM (Option Nat)} {frS loS : Nat} (hS : ∀ (b0_ : Nat), xMx x yX4_sum (Cond.code yX4_sum cX4_sum 3 (some (.object "ReserveLedger$Node"))) frS loS [.ref b0_] xeR (S b0_)) (F : xF x RX4 cX4_term (some (.object "ReserveLedger$Node"))) (hnL : xnL x = 3) (hRm : ∃ dc ds, x.2.2.2.1 = { frames := frS + 9, cells := dc, slots := ds, locals := loS + 217 }) (hno : ∀ pc, xNo x pc) (hmn : xmn x = "term" ∧ xmy x yX4_term) : ∀ (n : Nat) (l0 : Nat) (l1 : Option Nat), xI x xeR 5 [(0, va_rf (some l0)), (1, va_rf l1)] [] (fX4_term_p5 S n l0 l1) := by
  intro n
  induction n with
  | zero => intro l0 l1; exact xI.stuck
  | succ n ih =>
    intro l0 l1
    unfold fX4_term_p5
    refine xr_aload_n 0 (r := (some l0)) F dX4_term_5 rfl ?_
    refine xr_VI (y := yX4_peek) (As := []) (r := (some l0)) F (hno _) dX4_term_6 (fun z => fX4_peek_m (xFG F) z) (Or.inl rfl) (ci := 17) (C := RX4) (T := TX4) rfl q1778 q1775 q1777 qs14 (xroom hRm (by omega) (by omega)) ⟨by decide, by decide⟩ n_X4_peek rfl (xcat (Nat.le_of_ble_eq_true rfl)) (fun v6 => ?_)
    refine xr_bipush (42 : Int32) F dX4_term_9 rfl ?_
    refine xr_icmp_eq 23 F dX4_term_11 rfl ?_ ?_
    · exact xI.sub [0, 1] rfl (fX4_term_p23_ok hS F hnL hRm hno hmn ih l0 l1)
    · refine xr_aload_n 0 (r := (some l0)) F dX4_term_14 rfl ?_
      refine xr_VI (y := yX4_peek) (As := []) (r := (some l0)) F (hno _) dX4_term_15 (fun z => fX4_peek_m (xFG F) z) (Or.inl rfl) (ci := 17) (C := RX4) (T := TX4) rfl q1778 q1775 q1777 qs14 (xroom hRm (by omega) (by omega)) ⟨by decide, by decide⟩ n_X4_peek rfl (xcat (Nat.le_of_ble_eq_true rfl)) (fun v15 => ?_)
      refine xr_bipush (47 : Int32) F dX4_term_18 rfl ?_
      refine xr_icmp_ne 69 F dX4_term_20 rfl ?_ ?_
      · exact xI.sub [0, 1] rfl (fX4_term_p23_ok hS F hnL hRm hno hmn ih l0 l1)
      · refine xr_aload_n 1 (r := l1) F dX4_term_69 rfl ?_
        exact xr_aret (v := l1) F dX4_term_70 (Or.inl ⟨_, rfl⟩)
theorem fX4_term_m {l : Launch} {D : xD} {s0 : State} {b0 : Nat} {Γ : Nat → Option Nat} (G : xG l D s0 b0 Γ) {S : Nat → xM (Option Nat)} {frS loS : Nat} (hS : ∀ (b0_ : Nat), xMeth l D s0 Γ yX4_sum (Cond.code yX4_sum cX4_sum 3 (some (.object "ReserveLedger$Node"))) frS loS [.ref b0_] xeR (S b0_)) (a0 : Nat) : xMeth l D s0 Γ yX4_term (Cond.code yX4_term cX4_term 3 (some (.object "ReserveLedger$Node"))) (frS + 9) (loS + 217) [.ref a0] xeR (fX4_term S a0) := by
  refine xMeth.of (lv0 := [(0, va_rf (some a0))]) G (by decide +kernel) (Or.inl rfl) (Nat.le_of_ble_eq_true rfl) rfl (fun x F hnL hRm hmn ht e1 e2 e3 e4 => ?_)
  have hno : ∀ pc, xNo x pc := fun pc z hz => by rw [ht.1 rfl] at hz; cases hz
  have hS : ∀ (b0_ : Nat), xMx x yX4_sum (Cond.code yX4_sum cX4_sum 3 (some (.object "ReserveLedger$Node"))) frS loS [.ref b0_] xeR (S b0_) := by
    intro b0_
    unfold xMx
    rw [e1, e2, e3, e4]
    exact hS b0_
  unfold fX4_term
  refine xr_aload_n 0 (r := (some a0)) F dX4_term_0 rfl ?_
  refine xr_VR (y := yX4_factor) (As := []) (r := (some a0)) F (hno _) dX4_term_1 (fun z => fX4_factor_m (xFG F) hS z) (Or.inl rfl) (ci := 17) (C := RX4) (T := TX4) rfl q2238 q2235 q2237 qs28 (xroom hRm (by omega) (by omega)) ⟨by decide, by decide⟩ n_X4_factor rfl (xcat (Nat.le_of_ble_eq_true rfl)) (fun v1 => ?_)
  refine xs_a_n [0] F dX4_term_4 hnL rfl rfl (xk2 rfl (xrf_cat _) xk0) ?_
  exact xI.sub [1, 0] rfl (fX4_term_p5_ok hS F hnL hRm hno hmn xFU a0 v1)
theorem fX4_sum_p41_ok {x : xC} {S : Nat → xM (Option Nat)} {frS loS : Nat} (hS : ∀ (b0_ : Nat), xMx x yX4_sum (Cond.code yX4_sum cX4_sum 3 (some (.object "ReserveLedger$Node"))) frS loS [.ref b0_] xeR (S b0_)) (F : xF x RX4 cX4_sum (some (.object "ReserveLedger$Node"))) (hnL : xnL x = 3) (hRm : ∃ dc ds, x.2.2.2.1 = { frames := frS + 10, cells := dc, slots := ds, locals := loS + 239 }) (hno : ∀ pc, xNo x pc) (hmn : xmn x = "sum" ∧ xmy x yX4_sum) {k5 : Nat → Option Nat → xM (Option Nat)} (hk5 : ∀ (l0 : Nat) (l1 : Option Nat), xI x xeR 5 [(0, va_rf (some l0)), (1, va_rf l1)] [] (k5 l0 l1)) (l0 : Nat) (l1 : Option Nat) (s0 : Option Nat) : xI x xeR 41 [(0, va_rf (some l0)), (1, va_rf l1)] [va_rf s0] (fX4_sum_p41 S k5 l0 l1 s0) := by
  unfold fX4_sum_p41
  refine xs_a_n [0, 1] F dX4_sum_41 hnL rfl rfl (xk1 rfl rfl (xk2 rfl (xrf_cat _) xk0)) ?_
  refine xr_aload_n 1 (r := (some l0)) F dX4_sum_42 rfl ?_
  refine xr_dup F dX4_sum_43 (xrf_cat _) ?_
  refine xr_gI (r := (some l0)) (ref := "ReserveLedger$Parser") F dX4_sum_44 (C := RX4) (T := TX4) (N := 5) rfl (by decide) (Or.inl q1756) (Or.inl rfl) (fun v44 => ?_)
  refine xr_iconst (1 : Int32) F dX4_sum_47 rfl ?_
  refine xr_iadd F dX4_sum_48 ?_
  refine xr_put (r := (some l0)) (ref := "ReserveLedger$Parser") F dX4_sum_49 xk_17 (by decide) (Or.inl q1756) (Or.inl rfl) (Or.inl rfl) ⟨rfl, rfl⟩ ?_
  refine xr_new F dX4_sum_52 xk_27 xdf_27 q2283 q2284 q168 (fun v52 => ?_)
  refine xr_dup F dX4_sum_55 (xrf_cat _) ?_
  refine xr_aload_n 0 (r := s0) F dX4_sum_56 rfl ?_
  refine xr_aload_n 2 (r := l1) F dX4_sum_57 rfl ?_
  refine xr_aload_n 1 (r := (some l0)) F dX4_sum_58 rfl ?_
  refine xr_VR (y := yX4_term) (As := []) (r := (some l0)) F (hno _) dX4_sum_59 (fun z => fX4_term_m (xFG F) hS z) (Or.inl rfl) (ci := 17) (C := RX4) (T := TX4) rfl q2234 q2231 q2233 qs27 (xroom hRm (by omega) (by omega)) ⟨by decide, by decide⟩ n_X4_term rfl (xcat (Nat.le_of_ble_eq_true rfl)) (fun v59 => ?_)
  refine xr_IV (y := yX12_init) (As := [va_rf s0, va_rf l1, va_rf v59]) F (hno _) dX4_sum_62 (fX12_init_m (xFG F) v52 s0 l1 v59) rfl rfl q2287 (Or.inl q2285) q2286 (xroom hRm (by omega) (by omega)) ⟨by decide, by decide⟩ n_X12_init rfl (xcat (Nat.le_of_ble_eq_true rfl)) (fun _ => ?_)
  refine xs_a_n [1] F dX4_sum_65 hnL rfl rfl (xk2 rfl (xrf_cat _) xk0) ?_
  refine xr_goto 5 F dX4_sum_66 rfl ?_
  exact xI.sub [1, 0] rfl (hk5 l0 (some v52))
theorem fX4_sum_p23_ok {x : xC} {S : Nat → xM (Option Nat)} {frS loS : Nat} (hS : ∀ (b0_ : Nat), xMx x yX4_sum (Cond.code yX4_sum cX4_sum 3 (some (.object "ReserveLedger$Node"))) frS loS [.ref b0_] xeR (S b0_)) (F : xF x RX4 cX4_sum (some (.object "ReserveLedger$Node"))) (hnL : xnL x = 3) (hRm : ∃ dc ds, x.2.2.2.1 = { frames := frS + 10, cells := dc, slots := ds, locals := loS + 239 }) (hno : ∀ pc, xNo x pc) (hmn : xmn x = "sum" ∧ xmy x yX4_sum) {k5 : Nat → Option Nat → xM (Option Nat)} (hk5 : ∀ (l0 : Nat) (l1 : Option Nat), xI x xeR 5 [(0, va_rf (some l0)), (1, va_rf l1)] [] (k5 l0 l1)) (l0 : Nat) (l1 : Option Nat) : xI x xeR 23 [(0, va_rf (some l0)), (1, va_rf l1)] [] (fX4_sum_p23 S k5 l0 l1) := by
  unfold fX4_sum_p23
  refine xr_aload_n 0 (r := (some l0)) F dX4_sum_23 rfl ?_
  refine xr_VI (y := yX4_peek) (As := []) (r := (some l0)) F (hno _) dX4_sum_24 (fun z => fX4_peek_m (xFG F) z) (Or.inl rfl) (ci := 17) (C := RX4) (T := TX4) rfl q1778 q1775 q1777 qs14 (xroom hRm (by omega) (by omega)) ⟨by decide, by decide⟩ n_X4_peek rfl (xcat (Nat.le_of_ble_eq_true rfl)) (fun v24 => ?_)
  refine xr_bipush (43 : Int32) F dX4_sum_27 rfl ?_
  refine xr_icmp_ne 38 F dX4_sum_29 rfl ?_ ?_
  · refine xr_gs (k := 4) F dX4_sum_32 rfl q2305 (fun v32 => ?_)
    refine xr_goto 41 F dX4_sum_35 rfl ?_
    exact xI.sub [0, 1] rfl (fX4_sum_p41_ok hS F hnL hRm hno hmn hk5 l0 l1 v32)
  · refine xr_gs (k := 5) F dX4_sum_38 rfl q2307 (fun v38 => ?_)
    exact xI.sub [0, 1] rfl (fX4_sum_p41_ok hS F hnL hRm hno hmn hk5 l0 l1 v38)
theorem fX4_sum_p5_ok {x : xC} {S : Nat → xM (Option Nat)} {frS loS : Nat} (hS : ∀ (b0_ : Nat), xMx x yX4_sum (Cond.code yX4_sum cX4_sum 3 (some (.object "ReserveLedger$Node"))) frS loS [.ref b0_] xeR (S b0_)) (F : xF x RX4 cX4_sum (some (.object "ReserveLedger$Node"))) (hnL : xnL x = 3) (hRm : ∃ dc ds, x.2.2.2.1 = { frames := frS + 10, cells := dc, slots := ds, locals := loS + 239 }) (hno : ∀ pc, xNo x pc) (hmn : xmn x = "sum" ∧ xmy x yX4_sum) : ∀ (n : Nat) (l0 : Nat) (l1 : Option Nat), xI x xeR 5 [(0, va_rf (some l0)), (1, va_rf l1)] [] (fX4_sum_p5 S n l0 l1) := by
  intro n
  induction n with
  | zero => intro l0 l1; exact xI.stuck
  | succ n ih =>
    intro l0 l1
    unfold fX4_sum_p5
    refine xr_aload_n 0 (r := (some l0)) F dX4_sum_5 rfl ?_
    refine xr_VI (y := yX4_peek) (As := []) (r := (some l0)) F (hno _) dX4_sum_6 (fun z => fX4_peek_m (xFG F) z) (Or.inl rfl) (ci := 17) (C := RX4) (T := TX4) rfl q1778 q1775 q1777 qs14 (xroom hRm (by omega) (by omega)) ⟨by decide, by decide⟩ n_X4_peek rfl (xcat (Nat.le_of_ble_eq_true rfl)) (fun v6 => ?_)
    refine xr_bipush (43 : Int32) F dX4_sum_9 rfl ?_
    refine xr_icmp_eq 23 F dX4_sum_11 rfl ?_ ?_
    · exact xI.sub [0, 1] rfl (fX4_sum_p23_ok hS F hnL hRm hno hmn ih l0 l1)
    · refine xr_aload_n 0 (r := (some l0)) F dX4_sum_14 rfl ?_
      refine xr_VI (y := yX4_peek) (As := []) (r := (some l0)) F (hno _) dX4_sum_15 (fun z => fX4_peek_m (xFG F) z) (Or.inl rfl) (ci := 17) (C := RX4) (T := TX4) rfl q1778 q1775 q1777 qs14 (xroom hRm (by omega) (by omega)) ⟨by decide, by decide⟩ n_X4_peek rfl (xcat (Nat.le_of_ble_eq_true rfl)) (fun v15 => ?_)
      refine xr_bipush (45 : Int32) F dX4_sum_18 rfl ?_
      refine xr_icmp_ne 69 F dX4_sum_20 rfl ?_ ?_
      · exact xI.sub [0, 1] rfl (fX4_sum_p23_ok hS F hnL hRm hno hmn ih l0 l1)
      · refine xr_aload_n 1 (r := l1) F dX4_sum_69 rfl ?_
        exact xr_aret (v := l1) F dX4_sum_70 (Or.inl ⟨_, rfl⟩)
theorem fX4_sum_b_m {l : Launch} {D : xD} {s0 : State} {b0 : Nat} {Γ : Nat → Option Nat} (G : xG l D s0 b0 Γ) {S : Nat → xM (Option Nat)} {frS loS : Nat} (hS : ∀ (b0_ : Nat), xMeth l D s0 Γ yX4_sum (Cond.code yX4_sum cX4_sum 3 (some (.object "ReserveLedger$Node"))) frS loS [.ref b0_] xeR (S b0_)) (a0 : Nat) : xMeth l D s0 Γ yX4_sum (Cond.code yX4_sum cX4_sum 3 (some (.object "ReserveLedger$Node"))) (frS + 10) (loS + 239) [.ref a0] xeR (fX4_sum_b S a0) := by
  refine xMeth.of (lv0 := [(0, va_rf (some a0))]) G (by decide +kernel) (Or.inl rfl) (Nat.le_of_ble_eq_true rfl) rfl (fun x F hnL hRm hmn ht e1 e2 e3 e4 => ?_)
  have hno : ∀ pc, xNo x pc := fun pc z hz => by rw [ht.1 rfl] at hz; cases hz
  have hS : ∀ (b0_ : Nat), xMx x yX4_sum (Cond.code yX4_sum cX4_sum 3 (some (.object "ReserveLedger$Node"))) frS loS [.ref b0_] xeR (S b0_) := by
    intro b0_
    unfold xMx
    rw [e1, e2, e3, e4]
    exact hS b0_
  unfold fX4_sum_b
  refine xr_aload_n 0 (r := (some a0)) F dX4_sum_0 rfl ?_
  refine xr_VR (y := yX4_term) (As := []) (r := (some a0)) F (hno _) dX4_sum_1 (fun z => fX4_term_m (xFG F) hS z) (Or.inl rfl) (ci := 17) (C := RX4) (T := TX4) rfl q2234 q2231 q2233 qs27 (xroom hRm (by omega) (by omega)) ⟨by decide, by decide⟩ n_X4_term rfl (xcat (Nat.le_of_ble_eq_true rfl)) (fun v1 => ?_)
  refine xs_a_n [0] F dX4_sum_4 hnL rfl rfl (xk2 rfl (xrf_cat _) xk0) ?_
  exact xI.sub [1, 0] rfl (fX4_sum_p5_ok hS F hnL hRm hno hmn xFU a0 v1)
theorem fX4_sum_m {l : Launch} {D : xD} {s0 : State} {b0 : Nat} {Γ : Nat → Option Nat} (G : xG l D s0 b0 Γ) : ∀ (d : Nat) (a0 : Nat), xMeth l D s0 Γ yX4_sum (Cond.code yX4_sum cX4_sum 3 (some (.object "ReserveLedger$Node"))) (10 * d + 1) (239 * d + 12) [.ref a0] xeR (fX4_sum d a0) := by
  intro d
  induction d with
  | zero => intro a0 h n o h2 dc ds he; cases he
  | succ d ih =>
    intro a0
    have e1 : 10 * (d + 1) + 1 = (10 * d + 1) + 10 := by omega
    have e2 : 239 * (d + 1) + 12 = (239 * d + 12) + 239 := by omega
    rw [e1, e2]
    exact fX4_sum_b_m G ih a0
theorem fJ2_size_m {l : Launch} {D : xD} {s0 : State} {b0 : Nat} {Γ : Nat → Option Nat} (G : xG l D s0 b0 Γ) (a0 : Nat) : xMeth l D s0 Γ yJ2_size (Cond.code yJ2_size cJ2_size 1 (some .int)) (1) (12) [.ref a0] xeI (fJ2_size a0) := by
  refine xMeth.of (lv0 := [(0, va_rf (some a0))]) G (by decide +kernel) (Or.inl rfl) (Nat.le_of_ble_eq_true rfl) rfl (fun x F hnL hRm hmn ht e1 e2 e3 e4 => ?_)
  have hno : ∀ pc, xNo x pc := fun pc z hz => by rw [ht.1 rfl] at hz; cases hz
  unfold fJ2_size
  refine xr_aload_n 0 (r := (some a0)) F dJ2_size_0 rfl ?_
  refine xr_gI (r := (some a0)) (ref := "java/util/ArrayList") F dJ2_size_1 (C := RJ2) (T := TJ2) (N := 3) rfl (by decide) (Or.inl q546) (Or.inl rfl) (fun v1 => ?_)
  exact xr_iret F dJ2_size_4
theorem fJ25_checkIndex_m {l : Launch} {D : xD} {s0 : State} {b0 : Nat} {Γ : Nat → Option Nat} (G : xG l D s0 b0 Γ) (p0 : Int32) (p1 : Int32) : xMeth l D s0 Γ yJ25_checkIndex (Cond.code yJ25_checkIndex cJ25_checkIndex 2 (some .int)) (2) (34) [.int p0, .int p1] xeI (fJ25_checkIndex p0 p1) := by
  refine xMeth.of (lv0 := [(0, .int p0), (1, .int p1)]) G (by decide +kernel) (Or.inl rfl) (Nat.le_of_ble_eq_true rfl) rfl (fun x F hnL hRm hmn ht e1 e2 e3 e4 => ?_)
  have hno : ∀ pc, xNo x pc := fun pc z hz => by rw [ht.1 rfl] at hz; cases hz
  unfold fJ25_checkIndex
  refine xr_iload_n 0 F dJ25_checkIndex_0 rfl ?_
  refine xr_iload_n 1 F dJ25_checkIndex_1 rfl ?_
  refine xr_null F dJ25_checkIndex_2 ?_
  refine xr_SI (y := yJ14_checkIndex) (As := [.int p0, .int p1, va_rf none]) F (hno _) dJ25_checkIndex_3 (fJ14_checkIndex_m (xFG F) p0 p1 none) (Or.inl rfl) q682 q138 (Or.inl q905) q681 (xroom hRm (Nat.le_of_ble_eq_true rfl) (Nat.le_of_ble_eq_true rfl)) ⟨by decide, by decide⟩ n_J14_checkIndex rfl (xcat (Nat.le_of_ble_eq_true rfl)) (fun v3 => ?_)
  exact xr_iret F dJ25_checkIndex_6
theorem fJ2_elementData_m {l : Launch} {D : xD} {s0 : State} {b0 : Nat} {Γ : Nat → Option Nat} (G : xG l D s0 b0 Γ) (a0 : Nat) (p0 : Int32) : xMeth l D s0 Γ yJ2_elementData (Cond.code yJ2_elementData cJ2_elementData 2 (some (.object "java/lang/Object"))) (1) (12) [.ref a0, .int p0] xeR (fJ2_elementData a0 p0) := by
  refine xMeth.of (lv0 := [(0, va_rf (some a0)), (1, .int p0)]) G (by decide +kernel) (Or.inl rfl) (Nat.le_of_ble_eq_true rfl) rfl (fun x F hnL hRm hmn ht e1 e2 e3 e4 => ?_)
  have hno : ∀ pc, xNo x pc := fun pc z hz => by rw [ht.1 rfl] at hz; cases hz
  unfold fJ2_elementData
  refine xr_aload_n 0 (r := (some a0)) F dJ2_elementData_0 rfl ?_
  refine xr_gR (r := (some a0)) (ref := "java/util/ArrayList") F dJ2_elementData_1 (C := RJ2) (T := TJ2) (N := 3) rfl (by decide) (Or.inl q543) (Or.inl rfl) (fun v1 => ?_)
  refine xr_iload_n 1 F dJ2_elementData_4 rfl ?_
  refine xr_aald (r := v1) F dJ2_elementData_5 (fun v5 => ?_)
  exact xr_aret (v := v5) F dJ2_elementData_6 (Or.inl ⟨_, rfl⟩)
theorem fJ2_get_m {l : Launch} {D : xD} {s0 : State} {b0 : Nat} {Γ : Nat → Option Nat} (G : xG l D s0 b0 Γ) (a0 : Nat) (p0 : Int32) : xMeth l D s0 Γ yJ2_get (Cond.code yJ2_get cJ2_get 2 (some (.object "java/lang/Object"))) (3) (55) [.ref a0, .int p0] xeR (fJ2_get a0 p0) := by
  refine xMeth.of (lv0 := [(0, va_rf (some a0)), (1, .int p0)]) G (by decide +kernel) (Or.inl rfl) (Nat.le_of_ble_eq_true rfl) rfl (fun x F hnL hRm hmn ht e1 e2 e3 e4 => ?_)
  have hno : ∀ pc, xNo x pc := fun pc z hz => by rw [ht.1 rfl] at hz; cases hz
  unfold fJ2_get
  refine xr_iload_n 1 F dJ2_get_0 rfl ?_
  refine xr_aload_n 0 (r := (some a0)) F dJ2_get_1 rfl ?_
  refine xr_gI (r := (some a0)) (ref := "java/util/ArrayList") F dJ2_get_2 (C := RJ2) (T := TJ2) (N := 3) rfl (by decide) (Or.inl q546) (Or.inl rfl) (fun v2 => ?_)
  refine xr_SI (y := yJ25_checkIndex) (As := [.int p0, .int v2]) F (hno _) dJ2_get_5 (fJ25_checkIndex_m (xFG F) p0 v2) (Or.inl rfl) q904 q153 (Or.inl q902) q903 (xroom hRm (Nat.le_of_ble_eq_true rfl) (Nat.le_of_ble_eq_true rfl)) ⟨by decide, by decide⟩ n_J25_checkIndex rfl (xcat (Nat.le_of_ble_eq_true rfl)) (fun v5 => ?_)
  refine xr_pop F dJ2_get_8 rfl ?_
  refine xr_aload_n 0 (r := (some a0)) F dJ2_get_9 rfl ?_
  refine xr_iload_n 1 F dJ2_get_10 rfl ?_
  refine xr_VR (y := yJ2_elementData) (As := [.int p0]) (r := (some a0)) F (hno _) dJ2_get_11 (fun z => fJ2_elementData_m (xFG F) z p0) (Or.inl rfl) (ci := 2) (C := RJ2) (T := TJ2) rfl q909 q906 q907 q908 (xroom hRm (Nat.le_of_ble_eq_true rfl) (Nat.le_of_ble_eq_true rfl)) ⟨by decide, by decide⟩ n_J2_elementData rfl (xcat (Nat.le_of_ble_eq_true rfl)) (fun v11 => ?_)
  exact xr_aret (v := v11) F dJ2_get_14 (Or.inl ⟨_, rfl⟩)
theorem fJ2_isEmpty_m {l : Launch} {D : xD} {s0 : State} {b0 : Nat} {Γ : Nat → Option Nat} (G : xG l D s0 b0 Γ) (a0 : Nat) : xMeth l D s0 Γ yJ2_isEmpty (Cond.code yJ2_isEmpty cJ2_isEmpty 1 (some .boolean)) (1) (12) [.ref a0] xeI (fJ2_isEmpty a0) := by
  refine xMeth.of (lv0 := [(0, va_rf (some a0))]) G (by decide +kernel) (Or.inl rfl) (Nat.le_of_ble_eq_true rfl) rfl (fun x F hnL hRm hmn ht e1 e2 e3 e4 => ?_)
  have hno : ∀ pc, xNo x pc := fun pc z hz => by rw [ht.1 rfl] at hz; cases hz
  unfold fJ2_isEmpty
  refine xr_aload_n 0 (r := (some a0)) F dJ2_isEmpty_0 rfl ?_
  refine xr_gI (r := (some a0)) (ref := "java/util/ArrayList") F dJ2_isEmpty_1 (C := RJ2) (T := TJ2) (N := 3) rfl (by decide) (Or.inl q546) (Or.inl rfl) (fun v1 => ?_)
  refine xr_if_ne 11 F dJ2_isEmpty_4 rfl ?_ ?_
  · refine xr_iconst (1 : Int32) F dJ2_isEmpty_7 rfl ?_
    refine xr_goto 12 F dJ2_isEmpty_8 rfl ?_
    exact xr_zret F dJ2_isEmpty_12 rfl
  · refine xr_iconst (0 : Int32) F dJ2_isEmpty_11 rfl ?_
    exact xr_zret F dJ2_isEmpty_12 rfl
theorem fJ28_init__J29_m {l : Launch} {D : xD} {s0 : State} {b0 : Nat} {Γ : Nat → Option Nat} (G : xG l D s0 b0 Γ) (a0 : Nat) : xMeth l D s0 Γ yJ28_init (Cond.code yJ28_init cJ28_init 1 none) (1) (20) [.ref a0] xeV (fJ28_init__J29 a0) := by
  refine xMeth.of (lv0 := [(0, va_rf (some a0))]) G (by decide +kernel) (Or.inl rfl) (Nat.le_of_ble_eq_true rfl) rfl (fun x F hnL hRm hmn ht e1 e2 e3 e4 => ?_)
  have hno : ∀ pc, xNo x pc := fun pc z hz => by rw [ht.1 rfl] at hz; cases hz
  unfold fJ28_init__J29
  refine xr_aload_n 0 (r := (some a0)) F dJ28_init_0 rfl ?_
  refine xr_obj F dJ28_init_1 q1886 q200 (q_objcode) (xroom hRm (Nat.le_of_ble_eq_true rfl) (Nat.le_of_ble_eq_true rfl)) (xcat (Nat.le_of_ble_eq_true rfl)) ?_
  exact xr_vret F dJ28_init_4
theorem fJ29_init_m {l : Launch} {D : xD} {s0 : State} {b0 : Nat} {Γ : Nat → Option Nat} (G : xG l D s0 b0 Γ) (a0 : Nat) : xMeth l D s0 Γ yJ29_init (Cond.code yJ29_init cJ29_init 1 none) (2) (40) [.ref a0] xeV (fJ29_init a0) := by
  refine xMeth.of (lv0 := [(0, va_rf (some a0))]) G (by decide +kernel) (Or.inl rfl) (Nat.le_of_ble_eq_true rfl) rfl (fun x F hnL hRm hmn ht e1 e2 e3 e4 => ?_)
  have hno : ∀ pc, xNo x pc := fun pc z hz => by rw [ht.1 rfl] at hz; cases hz
  unfold fJ29_init
  refine xr_aload_n 0 (r := (some a0)) F dJ29_init_0 rfl ?_
  refine xr_IV (y := yJ28_init) (As := []) F (hno _) dJ29_init_1 (fJ28_init__J29_m (xFG F) a0) rfl rfl q1885 (Or.inl q1883) q1884 (xroom hRm (Nat.le_of_ble_eq_true rfl) (Nat.le_of_ble_eq_true rfl)) ⟨by decide, by decide⟩ n_J28_init rfl (xcat (Nat.le_of_ble_eq_true rfl)) (fun _ => ?_)
  refine xr_aload_n 0 (r := (some a0)) F dJ29_init_4 rfl ?_
  refine xr_iconst (0 : Int32) F dJ29_init_5 rfl ?_
  refine xr_put (r := (some a0)) (ref := "java/util/TreeMap") F dJ29_init_6 xk_16 (by decide) (Or.inl q1889) (Or.inl rfl) (Or.inl rfl) ⟨rfl, rfl⟩ ?_
  refine xr_aload_n 0 (r := (some a0)) F dJ29_init_9 rfl ?_
  refine xr_iconst (0 : Int32) F dJ29_init_10 rfl ?_
  refine xr_put (r := (some a0)) (ref := "java/util/TreeMap") F dJ29_init_11 xk_16 (by decide) (Or.inl q1890) (Or.inl rfl) (Or.inl rfl) ⟨rfl, rfl⟩ ?_
  refine xr_aload_n 0 (r := (some a0)) F dJ29_init_14 rfl ?_
  refine xr_null F dJ29_init_15 ?_
  refine xr_put (r := (some a0)) (ref := "java/util/TreeMap") F dJ29_init_16 xk_16 (by decide) (Or.inl q1887) (Or.inl rfl) (Or.inr ⟨rfl, hmn.1, rfl, q1887⟩) (xr_rf _ _) ?_
  exact xr_vret F dJ29_init_19
theorem fX7_init_m {l : Launch} {D : xD} {s0 : State} {b0 : Nat} {Γ : Nat → Option Nat} (G : xG l D s0 b0 Γ) (a0 : Nat) (p0 : Option Nat) (p1 : Int32) : xMeth l D s0 Γ yX7_init (Cond.code yX7_init cX7_init 3 none) (3) (60) [.ref a0, va_rf p0, .int p1] xeV (fX7_init a0 p0 p1) := by
  refine xMeth.of (lv0 := [(0, va_rf (some a0)), (1, va_rf p0), (2, .int p1)]) G (by decide +kernel) (Or.inl rfl) (by simp [lg_sl, xrf_cat, xct_i, xct_l, xct_d, xct_r]) (by simp [lv_args, xrf_cat, xct_i, xct_l, xct_d, xct_r, xrf_some]) (fun x F hnL hRm hmn ht e1 e2 e3 e4 => ?_)
  have hno : ∀ pc, xNo x pc := fun pc z hz => by rw [ht.1 rfl] at hz; cases hz
  unfold fX7_init
  refine xr_aload_n 0 (r := (some a0)) F dX7_init_0 rfl ?_
  refine xr_obj F dX7_init_1 q1867 q200 (q_objcode) (xroom hRm (Nat.le_of_ble_eq_true rfl) (Nat.le_of_ble_eq_true rfl)) (xcat (Nat.le_of_ble_eq_true rfl)) ?_
  refine xr_aload_n 0 (r := (some a0)) F dX7_init_4 rfl ?_
  refine xr_bipush (13 : Int32) F dX7_init_5 rfl ?_
  refine xr_newa F dX7_init_7 rfl (fun _ _ => rfl) (by decide) q1878 (fun v7 => ?_)
  refine xr_put (r := (some a0)) (ref := "ReserveLedger$Species") F dX7_init_9 xk_20 (by decide) (Or.inl q1922) (Or.inl rfl) (Or.inr ⟨rfl, hmn.1, rfl, q1922⟩) (xr_rfa _ _) ?_
  refine xr_aload_n 0 (r := (some a0)) F dX7_init_12 rfl ?_
  refine xr_iconst (1 : Int32) F dX7_init_13 rfl ?_
  refine xr_put (r := (some a0)) (ref := "ReserveLedger$Species") F dX7_init_14 xk_20 (by decide) (Or.inl q1926) (Or.inl rfl) (Or.inl rfl) ⟨rfl, rfl⟩ ?_
  refine xr_aload_n 0 (r := (some a0)) F dX7_init_17 rfl ?_
  refine xr_new F dX7_init_18 xk_21 xdf_21 q1868 q1869 q160 (fun v18 => ?_)
  refine xr_dup F dX7_init_21 (xrf_cat _) ?_
  refine xr_lconst 0 F dX7_init_22 rfl ?_
  refine xr_IV (y := yX8_init) (As := [.long (0 : Int64)]) F (hno _) dX7_init_23 (fX8_init_m (xFG F) v18 (0 : Int64)) rfl rfl q1872 (Or.inl q1870) q1871 (xroom hRm (Nat.le_of_ble_eq_true rfl) (Nat.le_of_ble_eq_true rfl)) ⟨by decide, by decide⟩ n_X8_init rfl (xcat (Nat.le_of_ble_eq_true rfl)) (fun _ => ?_)
  refine xr_put (r := (some a0)) (ref := "ReserveLedger$Species") F dX7_init_26 xk_20 (by decide) (Or.inl q1930) (Or.inl rfl) (Or.inl rfl) (xr_rf _ _) ?_
  refine xr_aload_n 0 (r := (some a0)) F dX7_init_29 rfl ?_
  refine xr_new F dX7_init_30 xk_16 xdf_16 q1879 q1683 q157 (fun v30 => ?_)
  refine xr_dup F dX7_init_33 (xrf_cat _) ?_
  refine xr_IV (y := yJ29_init) (As := []) F (hno _) dX7_init_34 (fJ29_init_m (xFG F) v30) rfl rfl q1882 (Or.inl q1880) q1881 (xroom hRm (Nat.le_of_ble_eq_true rfl) (Nat.le_of_ble_eq_true rfl)) ⟨by decide, by decide⟩ n_J29_init rfl (xcat (Nat.le_of_ble_eq_true rfl)) (fun _ => ?_)
  refine xr_put (r := (some a0)) (ref := "ReserveLedger$Species") F dX7_init_37 xk_20 (by decide) (Or.inl q1933) (Or.inl rfl) (Or.inr ⟨rfl, hmn.1, rfl, q1933⟩) (xr_rf _ _) ?_
  refine xr_aload_n 0 (r := (some a0)) F dX7_init_40 rfl ?_
  refine xr_aload_n 1 (r := p0) F dX7_init_41 rfl ?_
  refine xr_put (r := (some a0)) (ref := "ReserveLedger$Species") F dX7_init_42 xk_20 (by decide) (Or.inl q1914) (Or.inl rfl) (Or.inr ⟨rfl, hmn.1, rfl, q1914⟩) (xr_rf _ _) ?_
  refine xr_aload_n 0 (r := (some a0)) F dX7_init_45 rfl ?_
  refine xr_iload_n 2 F dX7_init_46 rfl ?_
  refine xr_put (r := (some a0)) (ref := "ReserveLedger$Species") F dX7_init_47 xk_20 (by decide) (Or.inl q1917) (Or.inl rfl) (Or.inr ⟨rfl, hmn.1, rfl, q1917⟩) ⟨rfl, rfl⟩ ?_
  exact xr_vret F dX7_init_50
theorem fJ0_init__J27_m {l : Launch} {D : xD} {s0 : State} {b0 : Nat} {Γ : Nat → Option Nat} (G : xG l D s0 b0 Γ) (a0 : Nat) : xMeth l D s0 Γ yJ0_init (Cond.code yJ0_init cJ0_init 1 none) (1) (20) [.ref a0] xeV (fJ0_init__J27 a0) := by
  refine xMeth.of (lv0 := [(0, va_rf (some a0))]) G (by decide +kernel) (Or.inl rfl) (Nat.le_of_ble_eq_true rfl) rfl (fun x F hnL hRm hmn ht e1 e2 e3 e4 => ?_)
  have hno : ∀ pc, xNo x pc := fun pc z hz => by rw [ht.1 rfl] at hz; cases hz
  unfold fJ0_init__J27
  refine xr_aload_n 0 (r := (some a0)) F dJ0_init_0 rfl ?_
  refine xr_obj F dJ0_init_1 q219 q200 (q_objcode) (xroom hRm (Nat.le_of_ble_eq_true rfl) (Nat.le_of_ble_eq_true rfl)) (xcat (Nat.le_of_ble_eq_true rfl)) ?_
  exact xr_vret F dJ0_init_4
theorem fJ27_init_m {l : Launch} {D : xD} {s0 : State} {b0 : Nat} {Γ : Nat → Option Nat} (G : xG l D s0 b0 Γ) (a0 : Nat) : xMeth l D s0 Γ yJ27_init (Cond.code yJ27_init cJ27_init 1 none) (2) (40) [.ref a0] xeV (fJ27_init a0) := by
  refine xMeth.of (lv0 := [(0, va_rf (some a0))]) G (by decide +kernel) (Or.inl rfl) (Nat.le_of_ble_eq_true rfl) rfl (fun x F hnL hRm hmn ht e1 e2 e3 e4 => ?_)
  have hno : ∀ pc, xNo x pc := fun pc z hz => by rw [ht.1 rfl] at hz; cases hz
  unfold fJ27_init
  refine xr_aload_n 0 (r := (some a0)) F dJ27_init_0 rfl ?_
  refine xr_IV (y := yJ0_init) (As := []) F (hno _) dJ27_init_1 (fJ0_init__J27_m (xFG F) a0) rfl rfl q218 (Or.inl q1998) q217 (xroom hRm (Nat.le_of_ble_eq_true rfl) (Nat.le_of_ble_eq_true rfl)) ⟨by decide, by decide⟩ n_J0_init rfl (xcat (Nat.le_of_ble_eq_true rfl)) (fun _ => ?_)
  refine xr_aload_n 0 (r := (some a0)) F dJ27_init_4 rfl ?_
  refine xr_bipush (17 : Int32) F dJ27_init_5 rfl ?_
  refine xr_anew F dJ27_init_7 rfl q1999 q221 (fun v7 => ?_)
  refine xr_put (r := (some a0)) (ref := "java/util/ArrayDeque") F dJ27_init_10 xk_23 (by decide) (Or.inl q2000) (Or.inl rfl) (Or.inl rfl) (xr_rfa _ _) ?_
  exact xr_vret F dJ27_init_13
theorem fX10_init_m {l : Launch} {D : xD} {s0 : State} {b0 : Nat} {Γ : Nat → Option Nat} (G : xG l D s0 b0 Γ) (a0 : Nat) (p0 : Option Nat) : xMeth l D s0 Γ yX10_init (Cond.code yX10_init cX10_init 2 none) (1) (20) [.ref a0, va_rf p0] xeV (fX10_init a0 p0) := by
  refine xMeth.of (lv0 := [(0, va_rf (some a0)), (1, va_rf p0)]) G (by decide +kernel) (Or.inl rfl) (by simp [lg_sl, xrf_cat, xct_i, xct_l, xct_d, xct_r]) (by simp [lv_args, xrf_cat, xct_i, xct_l, xct_d, xct_r, xrf_some]) (fun x F hnL hRm hmn ht e1 e2 e3 e4 => ?_)
  have hno : ∀ pc, xNo x pc := fun pc z hz => by rw [ht.1 rfl] at hz; cases hz
  unfold fX10_init
  refine xr_aload_n 0 (r := (some a0)) F dX10_init_0 rfl ?_
  refine xr_obj F dX10_init_1 q2017 q200 (q_objcode) (xroom hRm (Nat.le_of_ble_eq_true rfl) (Nat.le_of_ble_eq_true rfl)) (xcat (Nat.le_of_ble_eq_true rfl)) ?_
  refine xr_aload_n 0 (r := (some a0)) F dX10_init_4 rfl ?_
  refine xr_bipush (13 : Int32) F dX10_init_5 rfl ?_
  refine xr_newa F dX10_init_7 rfl (fun _ _ => rfl) (by decide) q1878 (fun v7 => ?_)
  refine xr_put (r := (some a0)) (ref := "ReserveLedger$Stock") F dX10_init_9 xk_24 (by decide) (Or.inl q2019) (Or.inl rfl) (Or.inr ⟨rfl, hmn.1, rfl, q2019⟩) (xr_rfa _ _) ?_
  refine xr_aload_n 0 (r := (some a0)) F dX10_init_12 rfl ?_
  refine xr_aload_n 1 (r := p0) F dX10_init_13 rfl ?_
  refine xr_put (r := (some a0)) (ref := "ReserveLedger$Stock") F dX10_init_14 xk_24 (by decide) (Or.inl q2018) (Or.inl rfl) (Or.inr ⟨rfl, hmn.1, rfl, q2018⟩) (xr_rf _ _) ?_
  exact xr_vret F dX10_init_17
theorem fX6_init_p54_ok {x : xC} (F : xF x RX6 cX6_init none) (hnL : xnL x = 3) (hRm : ∃ dc ds, x.2.2.2.1 = { frames := 3, cells := dc, slots := ds, locals := 60 }) (hno : ∀ pc, xNo x pc) (hmn : xmn x = "<init>" ∧ xmy x yX6_init) : ∀ (n : Nat) (l0 : Nat) (l1 : Option Nat) (l2 : Int32), xI x xeV 54 [(0, va_rf (some l0)), (1, va_rf l1), (2, .int l2)] [] (fX6_init_p54 n l0 l1 l2) := by
  intro n
  induction n with
  | zero => intro l0 l1 l2; exact xI.stuck
  | succ n ih =>
    intro l0 l1 l2
    unfold fX6_init_p54
    refine xr_iload_n 2 F dX6_init_54 rfl ?_
    refine xr_aload_n 1 (r := l1) F dX6_init_55 rfl ?_
    refine xr_gI (r := l1) (ref := "ReserveLedger$Species") F dX6_init_56 (C := RX7) (T := TX7) (N := 6) rfl (by decide) (Or.inr ⟨_, q1918⟩) (Or.inl rfl) (fun v56 => ?_)
    refine xr_icmp_gt 77 F dX6_init_59 rfl ?_ ?_
    · exact xr_vret F dX6_init_77
    · refine xr_aload_n 0 (r := (some l0)) F dX6_init_62 rfl ?_
      refine xr_gR (r := (some l0)) (ref := "ReserveLedger$Herd") F dX6_init_63 (C := RX6) (T := TX6) (N := 8) rfl (by decide) (Or.inl q2039) (Or.inl rfl) (fun v63 => ?_)
      refine xr_iload_n 2 F dX6_init_66 rfl ?_
      refine xr_sipush (500 : Int32) F dX6_init_67 rfl ?_
      refine xr_iast (r := v63) F dX6_init_70 ?_
      refine xs_inc [2, 0, 1] F dX6_init_71 rfl hnL rfl rfl (xk1 rfl rfl (xk2 rfl (xrf_cat _) xk0)) (fun x2_71 => ?_)
      refine xr_goto 54 F dX6_init_74 rfl ?_
      exact xI.sub [1, 2, 0] rfl (ih l0 l1 x2_71)
theorem fX6_init_m {l : Launch} {D : xD} {s0 : State} {b0 : Nat} {Γ : Nat → Option Nat} (G : xG l D s0 b0 Γ) (a0 : Nat) (p0 : Option Nat) : xMeth l D s0 Γ yX6_init (Cond.code yX6_init cX6_init 3 none) (3) (60) [.ref a0, va_rf p0] xeV (fX6_init a0 p0) := by
  refine xMeth.of (lv0 := [(0, va_rf (some a0)), (1, va_rf p0)]) G (by decide +kernel) (Or.inl rfl) (by simp [lg_sl, xrf_cat, xct_i, xct_l, xct_d, xct_r]) (by simp [lv_args, xrf_cat, xct_i, xct_l, xct_d, xct_r, xrf_some]) (fun x F hnL hRm hmn ht e1 e2 e3 e4 => ?_)
  have hno : ∀ pc, xNo x pc := fun pc z hz => by rw [ht.1 rfl] at hz; cases hz
  unfold fX6_init
  refine xr_aload_n 0 (r := (some a0)) F dX6_init_0 rfl ?_
  refine xr_obj F dX6_init_1 q1952 q200 (q_objcode) (xroom hRm (Nat.le_of_ble_eq_true rfl) (Nat.le_of_ble_eq_true rfl)) (xcat (Nat.le_of_ble_eq_true rfl)) ?_
  refine xr_aload_n 0 (r := (some a0)) F dX6_init_4 rfl ?_
  refine xr_bipush (13 : Int32) F dX6_init_5 rfl ?_
  refine xr_newa F dX6_init_7 rfl (fun _ _ => rfl) (by decide) q1878 (fun v7 => ?_)
  refine xr_put (r := (some a0)) (ref := "ReserveLedger$Herd") F dX6_init_9 xk_19 (by decide) (Or.inl q2039) (Or.inl rfl) (Or.inr ⟨rfl, hmn.1, rfl, q2039⟩) (xr_rfa _ _) ?_
  refine xr_aload_n 0 (r := (some a0)) F dX6_init_12 rfl ?_
  refine xr_new F dX6_init_13 xk_22 xdf_22 q1638 q1953 q161 (fun v13 => ?_)
  refine xr_dup F dX6_init_16 (xrf_cat _) ?_
  refine xr_iconst (0 : Int32) F dX6_init_17 rfl ?_
  refine xr_IV (y := yX9_init) (As := [.int (0 : Int32)]) F (hno _) dX6_init_18 (fX9_init_m (xFG F) v13 (0 : Int32)) rfl rfl q1956 (Or.inl q1954) q1955 (xroom hRm (Nat.le_of_ble_eq_true rfl) (Nat.le_of_ble_eq_true rfl)) ⟨by decide, by decide⟩ n_X9_init rfl (xcat (Nat.le_of_ble_eq_true rfl)) (fun _ => ?_)
  refine xr_put (r := (some a0)) (ref := "ReserveLedger$Herd") F dX6_init_21 xk_19 (by decide) (Or.inl q2052) (Or.inl rfl) (Or.inl rfl) (xr_rf _ _) ?_
  refine xr_aload_n 0 (r := (some a0)) F dX6_init_24 rfl ?_
  refine xr_new F dX6_init_25 xk_23 xdf_23 q1993 q1994 q155 (fun v25 => ?_)
  refine xr_dup F dX6_init_28 (xrf_cat _) ?_
  refine xr_IV (y := yJ27_init) (As := []) F (hno _) dX6_init_29 (fJ27_init_m (xFG F) v25) rfl rfl q1997 (Or.inl q1995) q1996 (xroom hRm (Nat.le_of_ble_eq_true rfl) (Nat.le_of_ble_eq_true rfl)) ⟨by decide, by decide⟩ n_J27_init rfl (xcat (Nat.le_of_ble_eq_true rfl)) (fun _ => ?_)
  refine xr_put (r := (some a0)) (ref := "ReserveLedger$Herd") F dX6_init_32 xk_19 (by decide) (Or.inl q2054) (Or.inl rfl) (Or.inr ⟨rfl, hmn.1, rfl, q2054⟩) (xr_rf _ _) ?_
  refine xr_aload_n 0 (r := (some a0)) F dX6_init_35 rfl ?_
  refine xr_aload_n 1 (r := p0) F dX6_init_36 rfl ?_
  refine xr_put (r := (some a0)) (ref := "ReserveLedger$Herd") F dX6_init_37 xk_19 (by decide) (Or.inl q2036) (Or.inl rfl) (Or.inr ⟨rfl, hmn.1, rfl, q2036⟩) (xr_rf _ _) ?_
  refine xr_aload_n 0 (r := (some a0)) F dX6_init_40 rfl ?_
  refine xr_new F dX6_init_41 xk_24 xdf_24 q2012 q2013 q162 (fun v41 => ?_)
  refine xr_dup F dX6_init_44 (xrf_cat _) ?_
  refine xr_aload_n 1 (r := p0) F dX6_init_45 rfl ?_
  refine xr_IV (y := yX10_init) (As := [va_rf p0]) F (hno _) dX6_init_46 (fX10_init_m (xFG F) v41 p0) rfl rfl q2016 (Or.inl q2014) q2015 (xroom hRm (Nat.le_of_ble_eq_true rfl) (Nat.le_of_ble_eq_true rfl)) ⟨by decide, by decide⟩ n_X10_init rfl (xcat (Nat.le_of_ble_eq_true rfl)) (fun _ => ?_)
  refine xr_put (r := (some a0)) (ref := "ReserveLedger$Herd") F dX6_init_49 xk_19 (by decide) (Or.inl q2042) (Or.inl rfl) (Or.inr ⟨rfl, hmn.1, rfl, q2042⟩) (xr_rf _ _) ?_
  refine xr_iconst (0 : Int32) F dX6_init_52 rfl ?_
  refine xr_letI (fun x2_53 => ?_)
  refine xs_i_n [0, 1] F dX6_init_53 hnL rfl rfl (xk1 rfl rfl (xk2 rfl (xrf_cat _) xk0)) ?_
  exact xI.sub [1, 2, 0] rfl (fX6_init_p54_ok F hnL hRm hno hmn xFU a0 p0 x2_53)
theorem fJ2_add_2_p11_ok {x : xC} (F : xF x RJ2 cJ2_add_2 none) (hnL : xnL x = 4) (hRm : ∃ dc ds, x.2.2.2.1 = { frames := 1, cells := dc, slots := ds, locals := 12 }) (hno : ∀ pc, xNo x pc) (hmn : xmn x = "add" ∧ xmy x yJ2_add_2) (l0 : Nat) (l1 : Option Nat) (l2 : Option Nat) (l3 : Int32) : xI x xeV 11 [(0, va_rf (some l0)), (1, va_rf l1), (2, va_rf l2), (3, .int l3)] [] (fJ2_add_2_p11 l0 l1 l2 l3) := by
  unfold fJ2_add_2_p11
  refine xr_aload_n 2 (r := l2) F dJ2_add_2_11 rfl ?_
  refine xr_iload_n 3 F dJ2_add_2_12 rfl ?_
  refine xr_aload_n 1 (r := l1) F dJ2_add_2_13 rfl ?_
  refine xr_aast (v := l1) (r := l2) F dJ2_add_2_14 rfl xokObj_ok ?_
  refine xr_aload_n 0 (r := (some l0)) F dJ2_add_2_15 rfl ?_
  refine xr_iload_n 3 F dJ2_add_2_16 rfl ?_
  refine xr_iconst (1 : Int32) F dJ2_add_2_17 rfl ?_
  refine xr_iadd F dJ2_add_2_18 ?_
  refine xr_put (r := (some l0)) (ref := "java/util/ArrayList") F dJ2_add_2_19 xk_2 (by decide) (Or.inl q546) (Or.inl rfl) (Or.inl rfl) ⟨rfl, rfl⟩ ?_
  exact xr_vret F dJ2_add_2_22
theorem fJ2_add_2_m {l : Launch} {D : xD} {s0 : State} {b0 : Nat} {Γ : Nat → Option Nat} (G : xG l D s0 b0 Γ) (a0 : Nat) (p0 : Option Nat) (p1 : Option Nat) (p2 : Int32) : xMeth l D s0 Γ yJ2_add_2 (Cond.code yJ2_add_2 cJ2_add_2 4 none) (1) (12) [.ref a0, va_rf p0, va_rf p1, .int p2] xeV (fJ2_add_2 a0 p0 p1 p2) := by
  refine xMeth.of (lv0 := [(0, va_rf (some a0)), (1, va_rf p0), (2, va_rf p1), (3, .int p2)]) G (by decide +kernel) (Or.inl rfl) (by simp [lg_sl, xrf_cat, xct_i, xct_l, xct_d, xct_r]) (by simp [lv_args, xrf_cat, xct_i, xct_l, xct_d, xct_r, xrf_some]) (fun x F hnL hRm hmn ht e1 e2 e3 e4 => ?_)
  have hno : ∀ pc, xNo x pc := fun pc z hz => by rw [ht.1 rfl] at hz; cases hz
  unfold fJ2_add_2
  refine xr_iload_n 3 F dJ2_add_2_0 rfl ?_
  refine xr_aload_n 2 (r := p1) F dJ2_add_2_1 rfl ?_
  refine xr_len (r := p1) F dJ2_add_2_2 (fun v2 => ?_)
  refine xr_icmp_ne 11 F dJ2_add_2_3 rfl ?_ ?_
  · refine xr_aload_n 0 (r := (some a0)) F dJ2_add_2_6 rfl ?_
    exact xI.stuck
  · exact xI.sub [0, 1, 2, 3] rfl (fJ2_add_2_p11_ok F hnL hRm hno hmn a0 p0 p1 p2)
theorem fJ2_add_m {l : Launch} {D : xD} {s0 : State} {b0 : Nat} {Γ : Nat → Option Nat} (G : xG l D s0 b0 Γ) (a0 : Nat) (p0 : Option Nat) : xMeth l D s0 Γ yJ2_add (Cond.code yJ2_add cJ2_add 2 (some .boolean)) (2) (35) [.ref a0, va_rf p0] xeI (fJ2_add a0 p0) := by
  refine xMeth.of (lv0 := [(0, va_rf (some a0)), (1, va_rf p0)]) G (by decide +kernel) (Or.inl rfl) (by simp [lg_sl, xrf_cat, xct_i, xct_l, xct_d, xct_r]) (by simp [lv_args, xrf_cat, xct_i, xct_l, xct_d, xct_r, xrf_some]) (fun x F hnL hRm hmn ht e1 e2 e3 e4 => ?_)
  have hno : ∀ pc, xNo x pc := fun pc z hz => by rw [ht.1 rfl] at hz; cases hz
  unfold fJ2_add
  refine xr_aload_n 0 (r := (some a0)) F dJ2_add_0 rfl ?_
  refine xr_dup F dJ2_add_1 (xrf_cat _) ?_
  refine xr_gI (r := (some a0)) (ref := "java/util/ArrayList") F dJ2_add_2 (C := RJ2) (T := TJ2) (N := 3) rfl (by decide) (Or.inl q554) (Or.inr q551) (fun v2 => ?_)
  refine xr_iconst (1 : Int32) F dJ2_add_5 rfl ?_
  refine xr_iadd F dJ2_add_6 ?_
  refine xr_put (r := (some a0)) (ref := "java/util/ArrayList") F dJ2_add_7 xk_2 (by decide) (Or.inl q554) (Or.inr q551) (Or.inl rfl) ⟨rfl, rfl⟩ ?_
  refine xr_aload_n 0 (r := (some a0)) F dJ2_add_10 rfl ?_
  refine xr_aload_n 1 (r := p0) F dJ2_add_11 rfl ?_
  refine xr_aload_n 0 (r := (some a0)) F dJ2_add_12 rfl ?_
  refine xr_gR (r := (some a0)) (ref := "java/util/ArrayList") F dJ2_add_13 (C := RJ2) (T := TJ2) (N := 3) rfl (by decide) (Or.inl q543) (Or.inl rfl) (fun v13 => ?_)
  refine xr_aload_n 0 (r := (some a0)) F dJ2_add_16 rfl ?_
  refine xr_gI (r := (some a0)) (ref := "java/util/ArrayList") F dJ2_add_17 (C := RJ2) (T := TJ2) (N := 3) rfl (by decide) (Or.inl q546) (Or.inl rfl) (fun v17 => ?_)
  refine xr_VV (y := yJ2_add_2) (As := [va_rf p0, va_rf v13, .int v17]) (r := (some a0)) F (hno _) dJ2_add_20 (fun z => fJ2_add_2_m (xFG F) z p0 v13 v17) (Or.inl rfl) (ci := 2) (C := RJ2) (T := TJ2) rfl q2085 q2082 q2084 qs22 (xroom hRm (Nat.le_of_ble_eq_true rfl) (Nat.le_of_ble_eq_true rfl)) ⟨by decide, by decide⟩ n_J2_add_2 rfl (xcat (Nat.le_of_ble_eq_true rfl)) (fun _ => ?_)
  refine xr_iconst (1 : Int32) F dJ2_add_23 rfl ?_
  exact xr_zret F dJ2_add_24 rfl
theorem fX4_species_p105_ok {x : xC} (F : xF x RX4 cX4_species none) (hnL : xnL x = 5) (hRm : ∃ dc ds, x.2.2.2.1 = { frames := 8, cells := dc, slots := ds, locals := 193 }) (hno : ∀ pc, xNo x pc) (hmn : xmn x = "species" ∧ xmy x yX4_species) {k64 : Nat → Option Nat → Option Nat → xM (Unit)} (hk64 : ∀ (l0 : Nat) (l2 : Option Nat) (l3 : Option Nat), xI x xeV 64 [(0, va_rf (some l0)), (2, va_rf l2), (3, va_rf l3)] [] (k64 l0 l2 l3)) (l0 : Nat) (l2 : Option Nat) (l3 : Option Nat) (s0 : Int32) (s1 : Nat) : xI x xeV 105 [(0, va_rf (some l0)), (2, va_rf l2), (3, va_rf l3)] [.int s0, va_rf (some s1)] (fX4_species_p105 k64 l0 l2 l3 s0 s1) := by
  unfold fX4_species_p105
  refine xr_iconst (3 : Int32) F dX4_species_105 rfl ?_
  refine xr_aload_n 0 (r := (some l0)) F dX4_species_106 rfl ?_
  refine xr_gI (r := (some l0)) (ref := "ReserveLedger$Parser") F dX4_species_107 (C := RX4) (T := TX4) (N := 5) rfl (by decide) (Or.inl q1756) (Or.inl rfl) (fun v107 => ?_)
  refine xr_VV (y := yX4_require) (As := [.int s0, .int (3 : Int32), .int v107]) (r := (some s1)) F (hno _) dX4_species_110 (fun z => fX4_require_m (xFG F) z s0 (3 : Int32) v107) (Or.inl rfl) (ci := 17) (C := RX4) (T := TX4) rfl q1810 q1807 q1809 qs20 (xroom hRm (Nat.le_of_ble_eq_true rfl) (Nat.le_of_ble_eq_true rfl)) ⟨by decide, by decide⟩ n_X4_require rfl (xcat (Nat.le_of_ble_eq_true rfl)) (fun _ => ?_)
  refine xr_goto 64 F dX4_species_113 rfl ?_
  exact xI.sub [0, 1, 2] rfl (hk64 l0 l2 l3)
theorem fX4_species_p64_ok {x : xC} (F : xF x RX4 cX4_species none) (hnL : xnL x = 5) (hRm : ∃ dc ds, x.2.2.2.1 = { frames := 8, cells := dc, slots := ds, locals := 193 }) (hno : ∀ pc, xNo x pc) (hmn : xmn x = "species" ∧ xmy x yX4_species) : ∀ (n : Nat) (l0 : Nat) (l2 : Option Nat) (l3 : Option Nat), xI x xeV 64 [(0, va_rf (some l0)), (2, va_rf l2), (3, va_rf l3)] [] (fX4_species_p64 n l0 l2 l3) := by
  intro n
  induction n with
  | zero => intro l0 l2 l3; exact xI.stuck
  | succ n ih =>
    intro l0 l2 l3
    unfold fX4_species_p64
    refine xr_aload_n 2 (r := l3) F dX4_species_64 rfl ?_
    refine xr_FI (x0 := ⟨"java/util/Iterator", "hasNext", "()Z"⟩) (y := yJ20_hasNext) (As := []) (r := l3) F (hno _) dX4_species_65 (fun z => fJ20_hasNext_m (xFG F) z) rfl (ci := 7) (C := RJ20) (T := TJ20) rfl q853 q1857 q851 q849 q826 q825 q852 q850 q848 (xroom hRm (Nat.le_of_ble_eq_true rfl) (Nat.le_of_ble_eq_true rfl)) ⟨by decide, by decide⟩ n_J20_hasNext rfl (xcat (Nat.le_of_ble_eq_true rfl)) (fun v65 => ?_)
    refine xr_if_eq 116 F dX4_species_70 rfl ?_ ?_
    · refine xr_aload_n 0 (r := (some l0)) F dX4_species_116 rfl ?_
      refine xr_dup F dX4_species_117 (xrf_cat _) ?_
      refine xr_gI (r := (some l0)) (ref := "ReserveLedger$Parser") F dX4_species_118 (C := RX4) (T := TX4) (N := 5) rfl (by decide) (Or.inl q1756) (Or.inl rfl) (fun v118 => ?_)
      refine xr_aload_n 1 (r := l2) F dX4_species_121 rfl ?_
      refine xr_VI (y := yJ9_length) (As := []) (r := l2) F (hno _) dX4_species_122 (fun z => fJ9_length_m (xFG F) z) (Or.inl rfl) (ci := 5) (C := RJ9) (T := TJ9) rfl q383 q1796 q381 q382 (xroom hRm (Nat.le_of_ble_eq_true rfl) (Nat.le_of_ble_eq_true rfl)) ⟨by decide, by decide⟩ n_J9_length rfl (xcat (Nat.le_of_ble_eq_true rfl)) (fun v122 => ?_)
      refine xr_iadd F dX4_species_125 ?_
      refine xr_put (r := (some l0)) (ref := "ReserveLedger$Parser") F dX4_species_126 xk_17 (by decide) (Or.inl q1756) (Or.inl rfl) (Or.inl rfl) ⟨rfl, rfl⟩ ?_
      refine xr_aload_n 0 (r := (some l0)) F dX4_species_129 rfl ?_
      refine xr_gR (r := (some l0)) (ref := "ReserveLedger$Parser") F dX4_species_130 (C := RX4) (T := TX4) (N := 5) rfl (by decide) (Or.inl q1758) (Or.inl rfl) (fun v130 => ?_)
      refine xr_gR (r := v130) (ref := "ReserveLedger$State") F dX4_species_133 (C := RX2) (T := TX2) (N := 5) rfl (by decide) (Or.inr ⟨_, q585⟩) (Or.inl rfl) (fun v133 => ?_)
      refine xr_new F dX4_species_136 xk_19 xdf_19 q1860 q1861 q158 (fun v136 => ?_)
      refine xr_dup F dX4_species_139 (xrf_cat _) ?_
      refine xr_new F dX4_species_140 xk_20 xdf_20 q1862 q1863 q159 (fun v140 => ?_)
      refine xr_dup F dX4_species_143 (xrf_cat _) ?_
      refine xr_aload_n 1 (r := l2) F dX4_species_144 rfl ?_
      refine xr_aload_n 0 (r := (some l0)) F dX4_species_145 rfl ?_
      refine xr_iconst (1 : Int32) F dX4_species_146 rfl ?_
      refine xr_bipush (12 : Int32) F dX4_species_147 rfl ?_
      refine xr_VI (y := yX4_number) (As := [.int (1 : Int32), .int (12 : Int32)]) (r := (some l0)) F (hno _) dX4_species_149 (fun z => fX4_number_m (xFG F) z (1 : Int32) (12 : Int32)) (Or.inl rfl) (ci := 17) (C := RX4) (T := TX4) rfl q1802 q1799 q1801 qs18 (xroom hRm (Nat.le_of_ble_eq_true rfl) (Nat.le_of_ble_eq_true rfl)) ⟨by decide, by decide⟩ n_X4_number rfl (by simp [xrf_cat, xct_i, xct_l, xct_d, xct_r]) (fun v149 => ?_)
      refine xr_IV (y := yX7_init) (As := [va_rf l2, .int v149]) F (hno _) dX4_species_152 (fX7_init_m (xFG F) v140 l2 v149) rfl rfl q1866 (Or.inl q1864) q1865 (xroom hRm (Nat.le_of_ble_eq_true rfl) (Nat.le_of_ble_eq_true rfl)) ⟨by decide, by decide⟩ n_X7_init rfl (xcat (Nat.le_of_ble_eq_true rfl)) (fun _ => ?_)
      refine xr_IV (y := yX6_init) (As := [va_rf (some v140)]) F (hno _) dX4_species_155 (fX6_init_m (xFG F) v136 (some v140)) rfl rfl q1951 (Or.inl q1949) q1950 (xroom hRm (Nat.le_of_ble_eq_true rfl) (Nat.le_of_ble_eq_true rfl)) ⟨by decide, by decide⟩ n_X6_init rfl (xcat (Nat.le_of_ble_eq_true rfl)) (fun _ => ?_)
      refine xr_FI (x0 := ⟨"java/util/List", "add", "(Ljava/lang/Object;)Z"⟩) (y := yJ2_add) (As := [va_rf (some v136)]) (r := v133) F (hno _) dX4_species_158 (fun z => fJ2_add_m (xFG F) z (some v136)) rfl (ci := 2) (C := RJ2) (T := TJ2) rfl q2081 q2074 q2079 q2077 q2076 q2075 q2080 q2078 q688 (xroom hRm (Nat.le_of_ble_eq_true rfl) (Nat.le_of_ble_eq_true rfl)) ⟨by decide, by decide⟩ n_J2_add rfl (xcat (Nat.le_of_ble_eq_true rfl)) (fun v158 => ?_)
      refine xr_pop F dX4_species_163 rfl ?_
      exact xr_vret F dX4_species_164
    · refine xr_aload_n 2 (r := l3) F dX4_species_73 rfl ?_
      refine xr_FR (x0 := ⟨"java/util/Iterator", "next", "()Ljava/lang/Object;"⟩) (y := yJ20_next) (As := []) (r := l3) F (hno _) dX4_species_74 (fun z => fJ20_next_m (xFG F) z) rfl (ci := 7) (C := RJ20) (T := TJ20) rfl q1075 q1859 q1073 q1071 q885 q884 q1074 q1072 q848 (xroom hRm (Nat.le_of_ble_eq_true rfl) (Nat.le_of_ble_eq_true rfl)) ⟨by decide, by decide⟩ n_J20_next rfl (xcat (Nat.le_of_ble_eq_true rfl)) (fun v74 => ?_)
      refine xr_castE (ci := 19) (r := v74) F dX4_species_79 q1860 rfl ?_
      refine xs_a [0, 1, 2] F dX4_species_82 hnL rfl rfl (xk1 rfl rfl (xk1 rfl rfl (xk2 rfl (xrf_cat _) xk0))) ?_
      refine xr_aload_n 1 (r := (some l0)) F dX4_species_84 rfl ?_
      refine xr_aload 0 (r := v74) F dX4_species_85 rfl ?_
      refine xr_gR (r := v74) (ref := "ReserveLedger$Herd") F dX4_species_87 (C := RX6) (T := TX6) (N := 8) rfl (by decide) (Or.inr ⟨_, q2038⟩) (Or.inl rfl) (fun v87 => ?_)
      refine xr_gR (r := v87) (ref := "ReserveLedger$Species") F dX4_species_90 (C := RX7) (T := TX7) (N := 6) rfl (by decide) (Or.inr ⟨_, q1915⟩) (Or.inl rfl) (fun v90 => ?_)
      refine xr_aload_n 2 (r := l2) F dX4_species_93 rfl ?_
      refine xr_VI (y := yJ9_equals) (As := [va_rf l2]) (r := v90) F (hno _) dX4_species_94 (fun z => fJ9_equals_m (xFG F) z l2) (Or.inl rfl) (ci := 5) (C := RJ9) (T := TJ9) rfl q1149 q1798 q1147 q1148 (xroom hRm (Nat.le_of_ble_eq_true rfl) (Nat.le_of_ble_eq_true rfl)) ⟨by decide, by decide⟩ n_J9_equals rfl (xcat (Nat.le_of_ble_eq_true rfl)) (fun v94 => ?_)
      refine xr_if_ne 104 F dX4_species_97 rfl ?_ ?_
      · refine xr_iconst (1 : Int32) F dX4_species_100 rfl ?_
        refine xr_goto 105 F dX4_species_101 rfl ?_
        exact xI.sub [1, 2, 3] rfl (fX4_species_p105_ok F hnL hRm hno hmn ih l0 l2 l3 (1 : Int32) l0)
      · refine xr_iconst (0 : Int32) F dX4_species_104 rfl ?_
        exact xI.sub [1, 2, 3] rfl (fX4_species_p105_ok F hnL hRm hno hmn ih l0 l2 l3 (0 : Int32) l0)
theorem fX4_species_p22_ok {x : xC} (F : xF x RX4 cX4_species none) (hnL : xnL x = 5) (hRm : ∃ dc ds, x.2.2.2.1 = { frames := 8, cells := dc, slots := ds, locals := 193 }) (hno : ∀ pc, xNo x pc) (hmn : xmn x = "species" ∧ xmy x yX4_species) (l0 : Nat) (l1 : Int32) (s0 : Int32) (s1 : Nat) : xI x xeV 22 [(0, va_rf (some l0)), (1, .int l1)] [.int s0, va_rf (some s1)] (fX4_species_p22 l0 l1 s0 s1) := by
  unfold fX4_species_p22
  refine xr_iconst (5 : Int32) F dX4_species_22 rfl ?_
  refine xr_iload_n 1 F dX4_species_23 rfl ?_
  refine xr_VV (y := yX4_require) (As := [.int s0, .int (5 : Int32), .int l1]) (r := (some s1)) F (hno _) dX4_species_24 (fun z => fX4_require_m (xFG F) z s0 (5 : Int32) l1) (Or.inl rfl) (ci := 17) (C := RX4) (T := TX4) rfl q1810 q1807 q1809 qs20 (xroom hRm (Nat.le_of_ble_eq_true rfl) (Nat.le_of_ble_eq_true rfl)) ⟨by decide, by decide⟩ n_X4_require rfl (xcat (Nat.le_of_ble_eq_true rfl)) (fun _ => ?_)
  refine xr_aload_n 0 (r := (some l0)) F dX4_species_27 rfl ?_
  refine xr_VR (y := yX4_word) (As := []) (r := (some l0)) F (hno _) dX4_species_28 (fun z => fX4_word_m (xFG F) z) (Or.inl rfl) (ci := 17) (C := RX4) (T := TX4) rfl q1790 q1787 q1789 qs17 (xroom hRm (Nat.le_of_ble_eq_true rfl) (Nat.le_of_ble_eq_true rfl)) ⟨by decide, by decide⟩ n_X4_word rfl (xcat (Nat.le_of_ble_eq_true rfl)) (fun v28 => ?_)
  refine xs_a_n [0] F dX4_species_31 hnL rfl rfl (xk1 rfl rfl xk0) ?_
  refine xr_aload_n 1 (r := (some l0)) F dX4_species_32 rfl ?_
  refine xr_aload_n 0 (r := v28) F dX4_species_33 rfl ?_
  refine xr_VI (y := yJ9_length) (As := []) (r := v28) F (hno _) dX4_species_34 (fun z => fJ9_length_m (xFG F) z) (Or.inl rfl) (ci := 5) (C := RJ9) (T := TJ9) rfl q383 q1796 q381 q382 (xroom hRm (Nat.le_of_ble_eq_true rfl) (Nat.le_of_ble_eq_true rfl)) ⟨by decide, by decide⟩ n_J9_length rfl (xcat (Nat.le_of_ble_eq_true rfl)) (fun v34 => ?_)
  refine xr_iconst (1 : Int32) F dX4_species_37 rfl ?_
  refine xr_bipush (6 : Int32) F dX4_species_38 rfl ?_
  refine xr_SI (y := yX1_inRange) (As := [.int v34, .int (1 : Int32), .int (6 : Int32)]) F (hno _) dX4_species_40 (fX1_inRange_m (xFG F) v34 (1 : Int32) (6 : Int32)) (Or.inl rfl) q646 q121 (Or.inr ⟨_, q1793⟩) q645 (xroom hRm (Nat.le_of_ble_eq_true rfl) (Nat.le_of_ble_eq_true rfl)) ⟨by decide, by decide⟩ n_X1_inRange rfl (xcat (Nat.le_of_ble_eq_true rfl)) (fun v40 => ?_)
  refine xr_iconst (1 : Int32) F dX4_species_43 rfl ?_
  refine xr_aload_n 1 (r := (some l0)) F dX4_species_44 rfl ?_
  refine xr_gI (r := (some l0)) (ref := "ReserveLedger$Parser") F dX4_species_45 (C := RX4) (T := TX4) (N := 5) rfl (by decide) (Or.inl q1756) (Or.inl rfl) (fun v45 => ?_)
  refine xr_VV (y := yX4_require) (As := [.int v40, .int (1 : Int32), .int v45]) (r := (some l0)) F (hno _) dX4_species_48 (fun z => fX4_require_m (xFG F) z v40 (1 : Int32) v45) (Or.inl rfl) (ci := 17) (C := RX4) (T := TX4) rfl q1810 q1807 q1809 qs20 (xroom hRm (Nat.le_of_ble_eq_true rfl) (Nat.le_of_ble_eq_true rfl)) ⟨by decide, by decide⟩ n_X4_require rfl (xcat (Nat.le_of_ble_eq_true rfl)) (fun _ => ?_)
  refine xr_aload_n 1 (r := (some l0)) F dX4_species_51 rfl ?_
  refine xr_gR (r := (some l0)) (ref := "ReserveLedger$Parser") F dX4_species_52 (C := RX4) (T := TX4) (N := 5) rfl (by decide) (Or.inl q1758) (Or.inl rfl) (fun v52 => ?_)
  refine xr_gR (r := v52) (ref := "ReserveLedger$State") F dX4_species_55 (C := RX2) (T := TX2) (N := 5) rfl (by decide) (Or.inr ⟨_, q585⟩) (Or.inl rfl) (fun v55 => ?_)
  refine xr_FR (x0 := ⟨"java/util/List", "iterator", "()Ljava/util/Iterator;"⟩) (y := yJ2_iterator) (As := []) (r := v55) F (hno _) dX4_species_58 (fun z => fJ2_iterator_m (xFG F) z) rfl (ci := 2) (C := RJ2) (T := TJ2) rfl q693 q1855 q691 q689 q687 q686 q692 q690 q688 (xroom hRm (Nat.le_of_ble_eq_true rfl) (Nat.le_of_ble_eq_true rfl)) ⟨by decide, by decide⟩ n_J2_iterator rfl (xcat (Nat.le_of_ble_eq_true rfl)) (fun v58 => ?_)
  refine xs_a_n [0, 1] F dX4_species_63 hnL rfl rfl (xk2 rfl (xrf_cat _) (xk1 rfl rfl xk0)) ?_
  exact xI.sub [2, 1, 0] rfl (fX4_species_p64_ok F hnL hRm hno hmn xFU l0 v28 v58)
theorem fX4_species_m {l : Launch} {D : xD} {s0 : State} {b0 : Nat} {Γ : Nat → Option Nat} (G : xG l D s0 b0 Γ) (a0 : Nat) (p0 : Int32) : xMeth l D s0 Γ yX4_species (Cond.code yX4_species cX4_species 5 none) (8) (193) [.ref a0, .int p0] xeV (fX4_species a0 p0) := by
  refine xMeth.of (lv0 := [(0, va_rf (some a0)), (1, .int p0)]) G (by decide +kernel) (Or.inl rfl) (Nat.le_of_ble_eq_true rfl) rfl (fun x F hnL hRm hmn ht e1 e2 e3 e4 => ?_)
  have hno : ∀ pc, xNo x pc := fun pc z hz => by rw [ht.1 rfl] at hz; cases hz
  unfold fX4_species
  refine xr_aload_n 0 (r := (some a0)) F dX4_species_0 rfl ?_
  refine xr_aload_n 0 (r := (some a0)) F dX4_species_1 rfl ?_
  refine xr_gR (r := (some a0)) (ref := "ReserveLedger$Parser") F dX4_species_2 (C := RX4) (T := TX4) (N := 5) rfl (by decide) (Or.inl q1758) (Or.inl rfl) (fun v2 => ?_)
  refine xr_gR (r := v2) (ref := "ReserveLedger$State") F dX4_species_5 (C := RX2) (T := TX2) (N := 5) rfl (by decide) (Or.inr ⟨_, q585⟩) (Or.inl rfl) (fun v5 => ?_)
  refine xr_FI (x0 := ⟨"java/util/List", "size", "()I"⟩) (y := yJ2_size) (As := []) (r := v5) F (hno _) dX4_species_8 (fun z => fJ2_size_m (xFG F) z) rfl (ci := 2) (C := RJ2) (T := TJ2) rfl q838 q1845 q837 q1848 q1847 q1846 q1850 q1849 q688 (xroom hRm (Nat.le_of_ble_eq_true rfl) (Nat.le_of_ble_eq_true rfl)) ⟨by decide, by decide⟩ n_J2_size rfl (xcat (Nat.le_of_ble_eq_true rfl)) (fun v8 => ?_)
  refine xr_iconst (4 : Int32) F dX4_species_13 rfl ?_
  refine xr_icmp_ge 21 F dX4_species_14 rfl ?_ ?_
  · refine xr_iconst (0 : Int32) F dX4_species_21 rfl ?_
    exact xI.sub [0, 1] rfl (fX4_species_p22_ok F hnL hRm hno hmn a0 p0 (0 : Int32) a0)
  · refine xr_iconst (1 : Int32) F dX4_species_17 rfl ?_
    refine xr_goto 22 F dX4_species_18 rfl ?_
    exact xI.sub [0, 1] rfl (fX4_species_p22_ok F hnL hRm hno hmn a0 p0 (1 : Int32) a0)
theorem fX4_line_p289_ok {x : xC} (F : xF x RX4 cX4_line none) (hnL : xnL x = 7) (hRm : ∃ dc ds, x.2.2.2.1 = { frames := 402, cells := dc, slots := ds, locals := 9594 }) (hno : ∀ pc, xNo x pc) (hmn : xmn x = "line" ∧ xmy x yX4_line) (l0 : Nat) (l2 : Int32) (l3 : Option Nat) (l4 : Option Nat) (l6 : Int32) : xI x xeV 289 [(0, va_rf (some l0)), (2, .int l2), (3, va_rf l3), (4, va_rf l4), (6, .int l6)] [] (fX4_line_p289 l0 l2 l3 l4 l6) := by
  unfold fX4_line_p289
  refine xr_iload 4 F dX4_line_289 rfl ?_
  refine xI.split (fun h_0 => ?_) (fun h_0 => ?_)
  · refine xr_tableIn 328 F dX4_line_291 (by rw [h_0]; decide) (by rw [h_0]; decide) (by rw [h_0]; rfl) rfl ?_
    refine xr_aload_n 0 (r := (some l0)) F dX4_line_328 rfl ?_
    refine xr_aload_n 2 (r := l3) F dX4_line_329 rfl ?_
    refine xr_gR (r := l3) (ref := "ReserveLedger$Herd") F dX4_line_330 (C := RX6) (T := TX6) (N := 8) rfl (by decide) (Or.inr ⟨_, q2040⟩) (Or.inl rfl) (fun v330 => ?_)
    refine xr_aload 3 (r := l4) F dX4_line_333 rfl ?_
    refine xr_gI (r := l4) (ref := "ReserveLedger$Species") F dX4_line_335 (C := RX7) (T := TX7) (N := 6) rfl (by decide) (Or.inr ⟨_, q1921⟩) (Or.inl rfl) (fun v335 => ?_)
    refine xr_sipush (1000 : Int32) F dX4_line_338 rfl ?_
    refine xr_VV (y := yX4_byAges) (As := [va_rf v330, .int v335, .int (1000 : Int32)]) (r := (some l0)) F (hno _) dX4_line_341 (fun z => fX4_byAges_m (xFG F) z v330 v335 (1000 : Int32)) (Or.inl rfl) (ci := 17) (C := RX4) (T := TX4) rfl q2225 q2222 q2224 qs25 (xroom hRm (Nat.le_of_ble_eq_true rfl) (Nat.le_of_ble_eq_true rfl)) ⟨by decide, by decide⟩ n_X4_byAges rfl (xcat (Nat.le_of_ble_eq_true rfl)) (fun _ => ?_)
    refine xr_goto 444 F dX4_line_344 rfl ?_
    exact xr_vret F dX4_line_444
  · refine xI.split (fun h_1 => ?_) (fun h_1 => ?_)
    · refine xr_tableIn 347 F dX4_line_291 (by rw [h_1]; decide) (by rw [h_1]; decide) (by rw [h_1]; rfl) rfl ?_
      refine xr_aload_n 0 (r := (some l0)) F dX4_line_347 rfl ?_
      refine xr_aload 3 (r := l4) F dX4_line_348 rfl ?_
      refine xr_gR (r := l4) (ref := "ReserveLedger$Species") F dX4_line_350 (C := RX7) (T := TX7) (N := 6) rfl (by decide) (Or.inr ⟨_, q1924⟩) (Or.inl rfl) (fun v350 => ?_)
      refine xr_aload 3 (r := l4) F dX4_line_353 rfl ?_
      refine xr_gI (r := l4) (ref := "ReserveLedger$Species") F dX4_line_355 (C := RX7) (T := TX7) (N := 6) rfl (by decide) (Or.inr ⟨_, q1921⟩) (Or.inl rfl) (fun v355 => ?_)
      refine xr_sipush (9999 : Int32) F dX4_line_358 rfl ?_
      refine xr_VV (y := yX4_byAges) (As := [va_rf v350, .int v355, .int (9999 : Int32)]) (r := (some l0)) F (hno _) dX4_line_361 (fun z => fX4_byAges_m (xFG F) z v350 v355 (9999 : Int32)) (Or.inl rfl) (ci := 17) (C := RX4) (T := TX4) rfl q2225 q2222 q2224 qs25 (xroom hRm (Nat.le_of_ble_eq_true rfl) (Nat.le_of_ble_eq_true rfl)) ⟨by decide, by decide⟩ n_X4_byAges rfl (xcat (Nat.le_of_ble_eq_true rfl)) (fun _ => ?_)
      refine xr_goto 444 F dX4_line_364 rfl ?_
      exact xr_vret F dX4_line_444
    · refine xI.split (fun h_2 => ?_) (fun h_2 => ?_)
      · refine xr_tableIn 367 F dX4_line_291 (by rw [h_2]; decide) (by rw [h_2]; decide) (by rw [h_2]; rfl) rfl ?_
        refine xr_aload_n 0 (r := (some l0)) F dX4_line_367 rfl ?_
        refine xr_aload_n 2 (r := l3) F dX4_line_368 rfl ?_
        refine xr_gR (r := l3) (ref := "ReserveLedger$Herd") F dX4_line_369 (C := RX6) (T := TX6) (N := 8) rfl (by decide) (Or.inr ⟨_, q2044⟩) (Or.inl rfl) (fun v369 => ?_)
        refine xr_gR (r := v369) (ref := "ReserveLedger$Stock") F dX4_line_372 (C := RX10) (T := TX10) (N := 4) rfl (by decide) (Or.inr ⟨_, q2021⟩) (Or.inl rfl) (fun v372 => ?_)
        refine xr_aload 3 (r := l4) F dX4_line_375 rfl ?_
        refine xr_gI (r := l4) (ref := "ReserveLedger$Species") F dX4_line_377 (C := RX7) (T := TX7) (N := 6) rfl (by decide) (Or.inr ⟨_, q1921⟩) (Or.inl rfl) (fun v377 => ?_)
        refine xr_ldcw F dX4_line_380 q2226 ?_
        refine xr_VV (y := yX4_byAges) (As := [va_rf v372, .int v377, .int (99999 : Int32)]) (r := (some l0)) F (hno _) dX4_line_383 (fun z => fX4_byAges_m (xFG F) z v372 v377 (99999 : Int32)) (Or.inl rfl) (ci := 17) (C := RX4) (T := TX4) rfl q2225 q2222 q2224 qs25 (xroom hRm (Nat.le_of_ble_eq_true rfl) (Nat.le_of_ble_eq_true rfl)) ⟨by decide, by decide⟩ n_X4_byAges rfl (xcat (Nat.le_of_ble_eq_true rfl)) (fun _ => ?_)
        refine xr_goto 444 F dX4_line_386 rfl ?_
        exact xr_vret F dX4_line_444
      · refine xI.split (fun h_3 => ?_) (fun h_3 => ?_)
        · refine xr_tableIn 389 F dX4_line_291 (by rw [h_3]; decide) (by rw [h_3]; decide) (by rw [h_3]; rfl) rfl ?_
          refine xr_aload 3 (r := l4) F dX4_line_389 rfl ?_
          refine xr_aload_n 0 (r := (some l0)) F dX4_line_391 rfl ?_
          refine xr_iconst (0 : Int32) F dX4_line_392 rfl ?_
          refine xr_aload 3 (r := l4) F dX4_line_393 rfl ?_
          refine xr_gI (r := l4) (ref := "ReserveLedger$Species") F dX4_line_395 (C := RX7) (T := TX7) (N := 6) rfl (by decide) (Or.inr ⟨_, q1921⟩) (Or.inl rfl) (fun v395 => ?_)
          refine xr_VI (y := yX4_number) (As := [.int (0 : Int32), .int v395]) (r := (some l0)) F (hno _) dX4_line_398 (fun z => fX4_number_m (xFG F) z (0 : Int32) v395) (Or.inl rfl) (ci := 17) (C := RX4) (T := TX4) rfl q1802 q1799 q1801 qs18 (xroom hRm (Nat.le_of_ble_eq_true rfl) (Nat.le_of_ble_eq_true rfl)) ⟨by decide, by decide⟩ n_X4_number rfl (xcat (Nat.le_of_ble_eq_true rfl)) (fun v398 => ?_)
          refine xr_put (r := l4) (ref := "ReserveLedger$Species") F dX4_line_401 xk_20 (by decide) (Or.inr ⟨_, q1929⟩) (Or.inl rfl) (Or.inl rfl) ⟨rfl, rfl⟩ ?_
          refine xr_goto 444 F dX4_line_404 rfl ?_
          exact xr_vret F dX4_line_444
        · refine xI.split (fun h_4 => ?_) (fun h_4 => ?_)
          · refine xr_tableIn 407 F dX4_line_291 (by rw [h_4]; decide) (by rw [h_4]; decide) (by rw [h_4]; rfl) rfl ?_
            refine xr_aload_n 2 (r := l3) F dX4_line_407 rfl ?_
            refine xr_aload_n 0 (r := (some l0)) F dX4_line_408 rfl ?_
            refine xr_iconst (1 : Int32) F dX4_line_409 rfl ?_
            refine xr_ldcw F dX4_line_410 q2226 ?_
            refine xr_VI (y := yX4_number) (As := [.int (1 : Int32), .int (99999 : Int32)]) (r := (some l0)) F (hno _) dX4_line_413 (fun z => fX4_number_m (xFG F) z (1 : Int32) (99999 : Int32)) (Or.inl rfl) (ci := 17) (C := RX4) (T := TX4) rfl q1802 q1799 q1801 qs18 (xroom hRm (Nat.le_of_ble_eq_true rfl) (Nat.le_of_ble_eq_true rfl)) ⟨by decide, by decide⟩ n_X4_number rfl (xcat (Nat.le_of_ble_eq_true rfl)) (fun v413 => ?_)
            refine xr_put (r := l3) (ref := "ReserveLedger$Herd") F dX4_line_416 xk_19 (by decide) (Or.inr ⟨_, q2047⟩) (Or.inl rfl) (Or.inl rfl) ⟨rfl, rfl⟩ ?_
            refine xr_goto 444 F dX4_line_419 rfl ?_
            exact xr_vret F dX4_line_444
          · refine xI.split (fun h_5 => ?_) (fun h_5 => ?_)
            · refine xr_tableIn 422 F dX4_line_291 (by rw [h_5]; decide) (by rw [h_5]; decide) (by rw [h_5]; rfl) rfl ?_
              refine xr_aload 3 (r := l4) F dX4_line_422 rfl ?_
              refine xr_aload_n 0 (r := (some l0)) F dX4_line_424 rfl ?_
              refine xr_VR (y := yX4_sum) (As := []) (r := (some l0)) F (hno _) dX4_line_425 (fun z => fX4_sum_m (xFG F) 40 z) (Or.inl rfl) (ci := 17) (C := RX4) (T := TX4) rfl q2230 q2227 q2229 qs26 (xroom hRm (Nat.le_of_ble_eq_true rfl) (Nat.le_of_ble_eq_true rfl)) ⟨by decide, by decide⟩ n_X4_sum rfl (xcat (Nat.le_of_ble_eq_true rfl)) (fun v425 => ?_)
              refine xr_put (r := l4) (ref := "ReserveLedger$Species") F dX4_line_428 xk_20 (by decide) (Or.inr ⟨_, q1932⟩) (Or.inl rfl) (Or.inl rfl) (xr_rf _ _) ?_
              refine xr_goto 444 F dX4_line_431 rfl ?_
              exact xr_vret F dX4_line_444
            · refine xr_tableOut 434 F dX4_line_291 (by intro i g1 g2; have g3 : i = 0 ∨ i = 1 ∨ i = 2 ∨ i = 3 ∨ i = 4 ∨ i = 5 := (by omega); rcases g3 with rfl | rfl | rfl | rfl | rfl | rfl; all_goals assumption) rfl ?_
              refine xr_new F dX4_line_434 xk_18 xdf_18 q1811 q1812 q146 (fun v434 => ?_)
              refine xr_dup F dX4_line_437 (xrf_cat _) ?_
              refine xr_iconst (1 : Int32) F dX4_line_438 rfl ?_
              refine xr_iload_n 1 F dX4_line_439 rfl ?_
              refine xr_IV (y := yX5_init) (As := [.int (1 : Int32), .int l2]) F (hno _) dX4_line_440 (fX5_init_m (xFG F) v434 (1 : Int32) l2) rfl rfl q1822 (Or.inl q1820) q1821 (xroom hRm (Nat.le_of_ble_eq_true rfl) (Nat.le_of_ble_eq_true rfl)) ⟨by decide, by decide⟩ n_X5_init rfl (xcat (Nat.le_of_ble_eq_true rfl)) (fun _ => ?_)
              exact xr_throw (r := (some v434)) F dX4_line_443 (hno _)
theorem fX4_line_p84_ok {x : xC} (F : xF x RX4 cX4_line none) (hnL : xnL x = 7) (hRm : ∃ dc ds, x.2.2.2.1 = { frames := 402, cells := dc, slots := ds, locals := 9594 }) (hno : ∀ pc, xNo x pc) (hmn : xmn x = "line" ∧ xmy x yX4_line) (l0 : Nat) (l1 : Option Nat) (l2 : Int32) (s0 : Int32) (s1 : Nat) : xI x xeV 84 [(0, va_rf (some l0)), (1, va_rf l1), (2, .int l2)] [.int s0, va_rf (some s1)] (fX4_line_p84 l0 l1 l2 s0 s1) := by
  unfold fX4_line_p84
  refine xr_iconst (1 : Int32) F dX4_line_84 rfl ?_
  refine xr_iload_n 2 F dX4_line_85 rfl ?_
  refine xr_VV (y := yX4_require) (As := [.int s0, .int (1 : Int32), .int l2]) (r := (some s1)) F (hno _) dX4_line_86 (fun z => fX4_require_m (xFG F) z s0 (1 : Int32) l2) (Or.inl rfl) (ci := 17) (C := RX4) (T := TX4) rfl q1810 q1807 q1809 qs20 (xroom hRm (Nat.le_of_ble_eq_true rfl) (Nat.le_of_ble_eq_true rfl)) ⟨by decide, by decide⟩ n_X4_require rfl (xcat (Nat.le_of_ble_eq_true rfl)) (fun _ => ?_)
  refine xr_aload_n 0 (r := (some l0)) F dX4_line_89 rfl ?_
  refine xr_gR (r := (some l0)) (ref := "ReserveLedger$Parser") F dX4_line_90 (C := RX4) (T := TX4) (N := 5) rfl (by decide) (Or.inl q1758) (Or.inl rfl) (fun v90 => ?_)
  refine xr_gR (r := v90) (ref := "ReserveLedger$State") F dX4_line_93 (C := RX2) (T := TX2) (N := 5) rfl (by decide) (Or.inr ⟨_, q585⟩) (Or.inl rfl) (fun v93 => ?_)
  refine xr_aload_n 0 (r := (some l0)) F dX4_line_96 rfl ?_
  refine xr_gR (r := (some l0)) (ref := "ReserveLedger$Parser") F dX4_line_97 (C := RX4) (T := TX4) (N := 5) rfl (by decide) (Or.inl q1758) (Or.inl rfl) (fun v97 => ?_)
  refine xr_gR (r := v97) (ref := "ReserveLedger$State") F dX4_line_100 (C := RX2) (T := TX2) (N := 5) rfl (by decide) (Or.inr ⟨_, q585⟩) (Or.inl rfl) (fun v100 => ?_)
  refine xr_FI (x0 := ⟨"java/util/List", "size", "()I"⟩) (y := yJ2_size) (As := []) (r := v100) F (hno _) dX4_line_103 (fun z => fJ2_size_m (xFG F) z) rfl (ci := 2) (C := RJ2) (T := TJ2) rfl q838 q1845 q837 q1848 q1847 q1846 q1850 q1849 q688 (xroom hRm (Nat.le_of_ble_eq_true rfl) (Nat.le_of_ble_eq_true rfl)) ⟨by decide, by decide⟩ n_J2_size rfl (xcat (Nat.le_of_ble_eq_true rfl)) (fun v103 => ?_)
  refine xr_iconst (1 : Int32) F dX4_line_108 rfl ?_
  refine xr_isub F dX4_line_109 ?_
  refine xr_FR (x0 := ⟨"java/util/List", "get", "(I)Ljava/lang/Object;"⟩) (y := yJ2_get) (As := [.int (v103 - (1 : Int32))]) (r := v93) F (hno _) dX4_line_110 (fun z => fJ2_get_m (xFG F) z (v103 - (1 : Int32))) rfl (ci := 2) (C := RJ2) (T := TJ2) rfl q901 q2150 q900 q2153 q2152 q2151 q2155 q2154 q688 (xroom hRm (Nat.le_of_ble_eq_true rfl) (Nat.le_of_ble_eq_true rfl)) ⟨by decide, by decide⟩ n_J2_get rfl (xcat (Nat.le_of_ble_eq_true rfl)) (fun v110 => ?_)
  refine xr_castE (ci := 19) (r := v110) F dX4_line_115 q1860 rfl ?_
  refine xs_a_n [0, 1, 2] F dX4_line_118 hnL rfl rfl (xk1 rfl rfl (xk1 rfl rfl (xk2 rfl rfl xk0))) ?_
  refine xr_aload_n 0 (r := v110) F dX4_line_119 rfl ?_
  refine xr_gR (r := v110) (ref := "ReserveLedger$Herd") F dX4_line_120 (C := RX6) (T := TX6) (N := 8) rfl (by decide) (Or.inr ⟨_, q2038⟩) (Or.inl rfl) (fun v120 => ?_)
  refine xs_a [0, 1, 2, 3] F dX4_line_123 hnL rfl rfl (xk2 rfl (xrf_cat _) (xk1 rfl rfl (xk1 rfl rfl (xk1 rfl rfl xk0)))) ?_
  refine xr_aload_n 3 (r := l1) F dX4_line_125 rfl ?_
  refine xs_a [0, 1, 2, 4] F dX4_line_126 hnL rfl rfl (xk2 rfl (xrf_cat _) (xk1 rfl rfl (xk1 rfl rfl (xk1 rfl rfl xk0)))) ?_
  refine xr_iconst (-1 : Int32) F dX4_line_128 rfl ?_
  refine xr_letI (fun x6_129 => ?_)
  refine xs_i [0, 1, 2, 3, 4] F dX4_line_129 hnL rfl rfl (xk2 rfl (xrf_cat _) (xk1 rfl rfl (xk1 rfl rfl (xk1 rfl rfl (xk1 rfl rfl xk0))))) ?_
  refine xr_aload 1 (r := l1) F dX4_line_131 rfl ?_
  refine xr_VI (y := yJ9_hashCode) (As := []) (r := l1) F (hno _) dX4_line_133 (fun z => fJ9_hashCode_m (xFG F) z) (Or.inl rfl) (ci := 5) (C := RJ9) (T := TJ9) rfl q2162 q2159 q2160 q2161 (xroom hRm (Nat.le_of_ble_eq_true rfl) (Nat.le_of_ble_eq_true rfl)) ⟨by decide, by decide⟩ n_J9_hashCode rfl (xcat (Nat.le_of_ble_eq_true rfl)) (fun v133 => ?_)
  refine xI.split (fun h_0 => ?_) (fun h_0 => ?_)
  · refine xr_lookup (off := 60) 196 F dX4_line_136 (by decide) (by first | (rw [h_0]; done) | (rw [h_0]; rfl)) rfl ?_
    refine xr_aload 1 (r := l1) F dX4_line_196 rfl ?_
    refine xr_str (k := 3) F dX4_line_198 rfl (fun v198 => ?_)
    refine xr_VI (y := yJ9_equals) (As := [va_rf v198]) (r := l1) F (hno _) dX4_line_200 (fun z => fJ9_equals_m (xFG F) z v198) (Or.inl rfl) (ci := 5) (C := RJ9) (T := TJ9) rfl q1149 q1798 q1147 q1148 (xroom hRm (Nat.le_of_ble_eq_true rfl) (Nat.le_of_ble_eq_true rfl)) ⟨by decide, by decide⟩ n_J9_equals rfl (xcat (Nat.le_of_ble_eq_true rfl)) (fun v200 => ?_)
    refine xr_if_eq 289 F dX4_line_203 rfl ?_ ?_
    · exact xI.sub [4, 5, 3, 2, 0] rfl (fX4_line_p289_ok F hnL hRm hno hmn l0 l2 v110 v120 x6_129)
    · refine xr_iconst (0 : Int32) F dX4_line_206 rfl ?_
      refine xr_letI (fun x6_207 => ?_)
      refine xs_i [2, 3, 4, 5] F dX4_line_207 hnL rfl rfl (xk1 rfl rfl (xk1 rfl rfl (xk1 rfl rfl (xk1 rfl rfl xk0)))) ?_
      refine xr_goto 289 F dX4_line_209 rfl ?_
      exact xI.sub [3, 4, 2, 1, 0] rfl (fX4_line_p289_ok F hnL hRm hno hmn l0 l2 v110 v120 x6_207)
  · refine xI.split (fun h_1 => ?_) (fun h_1 => ?_)
    · refine xr_lookup (off := 76) 212 F dX4_line_136 (by decide) (by first | (rw [h_1]; done) | (rw [h_1]; rfl)) rfl ?_
      refine xr_aload 1 (r := l1) F dX4_line_212 rfl ?_
      refine xr_str (k := 4) F dX4_line_214 rfl (fun v214 => ?_)
      refine xr_VI (y := yJ9_equals) (As := [va_rf v214]) (r := l1) F (hno _) dX4_line_216 (fun z => fJ9_equals_m (xFG F) z v214) (Or.inl rfl) (ci := 5) (C := RJ9) (T := TJ9) rfl q1149 q1798 q1147 q1148 (xroom hRm (Nat.le_of_ble_eq_true rfl) (Nat.le_of_ble_eq_true rfl)) ⟨by decide, by decide⟩ n_J9_equals rfl (xcat (Nat.le_of_ble_eq_true rfl)) (fun v216 => ?_)
      refine xr_if_eq 289 F dX4_line_219 rfl ?_ ?_
      · exact xI.sub [4, 5, 3, 2, 0] rfl (fX4_line_p289_ok F hnL hRm hno hmn l0 l2 v110 v120 x6_129)
      · refine xr_iconst (1 : Int32) F dX4_line_222 rfl ?_
        refine xr_letI (fun x6_223 => ?_)
        refine xs_i [2, 3, 4, 5] F dX4_line_223 hnL rfl rfl (xk1 rfl rfl (xk1 rfl rfl (xk1 rfl rfl (xk1 rfl rfl xk0)))) ?_
        refine xr_goto 289 F dX4_line_225 rfl ?_
        exact xI.sub [3, 4, 2, 1, 0] rfl (fX4_line_p289_ok F hnL hRm hno hmn l0 l2 v110 v120 x6_223)
    · refine xI.split (fun h_2 => ?_) (fun h_2 => ?_)
      · refine xr_lookup (off := 124) 260 F dX4_line_136 (by decide) (by first | (rw [h_2]; done) | (rw [h_2]; rfl)) rfl ?_
        refine xr_aload 1 (r := l1) F dX4_line_260 rfl ?_
        refine xr_str (k := 7) F dX4_line_262 rfl (fun v262 => ?_)
        refine xr_VI (y := yJ9_equals) (As := [va_rf v262]) (r := l1) F (hno _) dX4_line_264 (fun z => fJ9_equals_m (xFG F) z v262) (Or.inl rfl) (ci := 5) (C := RJ9) (T := TJ9) rfl q1149 q1798 q1147 q1148 (xroom hRm (Nat.le_of_ble_eq_true rfl) (Nat.le_of_ble_eq_true rfl)) ⟨by decide, by decide⟩ n_J9_equals rfl (xcat (Nat.le_of_ble_eq_true rfl)) (fun v264 => ?_)
        refine xr_if_eq 289 F dX4_line_267 rfl ?_ ?_
        · exact xI.sub [4, 5, 3, 2, 0] rfl (fX4_line_p289_ok F hnL hRm hno hmn l0 l2 v110 v120 x6_129)
        · refine xr_iconst (4 : Int32) F dX4_line_270 rfl ?_
          refine xr_letI (fun x6_271 => ?_)
          refine xs_i [2, 3, 4, 5] F dX4_line_271 hnL rfl rfl (xk1 rfl rfl (xk1 rfl rfl (xk1 rfl rfl (xk1 rfl rfl xk0)))) ?_
          refine xr_goto 289 F dX4_line_273 rfl ?_
          exact xI.sub [3, 4, 2, 1, 0] rfl (fX4_line_p289_ok F hnL hRm hno hmn l0 l2 v110 v120 x6_271)
      · refine xI.split (fun h_3 => ?_) (fun h_3 => ?_)
        · refine xr_lookup (off := 108) 244 F dX4_line_136 (by decide) (by first | (rw [h_3]; done) | (rw [h_3]; rfl)) rfl ?_
          refine xr_aload 1 (r := l1) F dX4_line_244 rfl ?_
          refine xr_str (k := 6) F dX4_line_246 rfl (fun v246 => ?_)
          refine xr_VI (y := yJ9_equals) (As := [va_rf v246]) (r := l1) F (hno _) dX4_line_248 (fun z => fJ9_equals_m (xFG F) z v246) (Or.inl rfl) (ci := 5) (C := RJ9) (T := TJ9) rfl q1149 q1798 q1147 q1148 (xroom hRm (Nat.le_of_ble_eq_true rfl) (Nat.le_of_ble_eq_true rfl)) ⟨by decide, by decide⟩ n_J9_equals rfl (xcat (Nat.le_of_ble_eq_true rfl)) (fun v248 => ?_)
          refine xr_if_eq 289 F dX4_line_251 rfl ?_ ?_
          · exact xI.sub [4, 5, 3, 2, 0] rfl (fX4_line_p289_ok F hnL hRm hno hmn l0 l2 v110 v120 x6_129)
          · refine xr_iconst (3 : Int32) F dX4_line_254 rfl ?_
            refine xr_letI (fun x6_255 => ?_)
            refine xs_i [2, 3, 4, 5] F dX4_line_255 hnL rfl rfl (xk1 rfl rfl (xk1 rfl rfl (xk1 rfl rfl (xk1 rfl rfl xk0)))) ?_
            refine xr_goto 289 F dX4_line_257 rfl ?_
            exact xI.sub [3, 4, 2, 1, 0] rfl (fX4_line_p289_ok F hnL hRm hno hmn l0 l2 v110 v120 x6_255)
        · refine xI.split (fun h_4 => ?_) (fun h_4 => ?_)
          · refine xr_lookup (off := 140) 276 F dX4_line_136 (by decide) (by first | (rw [h_4]; done) | (rw [h_4]; rfl)) rfl ?_
            refine xr_aload 1 (r := l1) F dX4_line_276 rfl ?_
            refine xr_str (k := 8) F dX4_line_278 rfl (fun v278 => ?_)
            refine xr_VI (y := yJ9_equals) (As := [va_rf v278]) (r := l1) F (hno _) dX4_line_280 (fun z => fJ9_equals_m (xFG F) z v278) (Or.inl rfl) (ci := 5) (C := RJ9) (T := TJ9) rfl q1149 q1798 q1147 q1148 (xroom hRm (Nat.le_of_ble_eq_true rfl) (Nat.le_of_ble_eq_true rfl)) ⟨by decide, by decide⟩ n_J9_equals rfl (xcat (Nat.le_of_ble_eq_true rfl)) (fun v280 => ?_)
            refine xr_if_eq 289 F dX4_line_283 rfl ?_ ?_
            · exact xI.sub [4, 5, 3, 2, 0] rfl (fX4_line_p289_ok F hnL hRm hno hmn l0 l2 v110 v120 x6_129)
            · refine xr_iconst (5 : Int32) F dX4_line_286 rfl ?_
              refine xr_letI (fun x6_287 => ?_)
              refine xs_i [2, 3, 4, 5] F dX4_line_287 hnL rfl rfl (xk1 rfl rfl (xk1 rfl rfl (xk1 rfl rfl (xk1 rfl rfl xk0)))) ?_
              exact xI.sub [3, 4, 2, 1, 0] rfl (fX4_line_p289_ok F hnL hRm hno hmn l0 l2 v110 v120 x6_287)
          · refine xI.split (fun h_5 => ?_) (fun h_5 => ?_)
            · refine xr_lookup (off := 92) 228 F dX4_line_136 (by decide) (by first | (rw [h_5]; done) | (rw [h_5]; rfl)) rfl ?_
              refine xr_aload 1 (r := l1) F dX4_line_228 rfl ?_
              refine xr_str (k := 5) F dX4_line_230 rfl (fun v230 => ?_)
              refine xr_VI (y := yJ9_equals) (As := [va_rf v230]) (r := l1) F (hno _) dX4_line_232 (fun z => fJ9_equals_m (xFG F) z v230) (Or.inl rfl) (ci := 5) (C := RJ9) (T := TJ9) rfl q1149 q1798 q1147 q1148 (xroom hRm (Nat.le_of_ble_eq_true rfl) (Nat.le_of_ble_eq_true rfl)) ⟨by decide, by decide⟩ n_J9_equals rfl (xcat (Nat.le_of_ble_eq_true rfl)) (fun v232 => ?_)
              refine xr_if_eq 289 F dX4_line_235 rfl ?_ ?_
              · exact xI.sub [4, 5, 3, 2, 0] rfl (fX4_line_p289_ok F hnL hRm hno hmn l0 l2 v110 v120 x6_129)
              · refine xr_iconst (2 : Int32) F dX4_line_238 rfl ?_
                refine xr_letI (fun x6_239 => ?_)
                refine xs_i [2, 3, 4, 5] F dX4_line_239 hnL rfl rfl (xk1 rfl rfl (xk1 rfl rfl (xk1 rfl rfl (xk1 rfl rfl xk0)))) ?_
                refine xr_goto 289 F dX4_line_241 rfl ?_
                exact xI.sub [3, 4, 2, 1, 0] rfl (fX4_line_p289_ok F hnL hRm hno hmn l0 l2 v110 v120 x6_239)
            · refine xr_lookup (off := 153) 289 F dX4_line_136 (by decide) ((lv_osw (a := -1852747022) h_0 (by decide)).trans ((lv_osw (a := 3019700) h_1 (by decide)).trans ((lv_osw (a := 3506395) h_2 (by decide)).trans ((lv_osw (a := 92676538) h_3 (by decide)).trans ((lv_osw (a := 92906313) h_4 (by decide)).trans ((lv_osw (a := 94851343) h_5 (by decide)).trans rfl)))))) rfl ?_
              exact xI.sub [4, 5, 3, 2, 0] rfl (fX4_line_p289_ok F hnL hRm hno hmn l0 l2 v110 v120 x6_129)
theorem fX4_line_m {l : Launch} {D : xD} {s0 : State} {b0 : Nat} {Γ : Nat → Option Nat} (G : xG l D s0 b0 Γ) (a0 : Nat) : xMeth l D s0 Γ yX4_line (Cond.code yX4_line cX4_line 7 none) (402) (9594) [.ref a0] xeV (fX4_line a0) := by
  refine xMeth.of (lv0 := [(0, va_rf (some a0))]) G (by decide +kernel) (Or.inl rfl) (Nat.le_of_ble_eq_true rfl) rfl (fun x F hnL hRm hmn ht e1 e2 e3 e4 => ?_)
  have hno : ∀ pc, xNo x pc := fun pc z hz => by rw [ht.1 rfl] at hz; cases hz
  unfold fX4_line
  refine xr_aload_n 0 (r := (some a0)) F dX4_line_0 rfl ?_
  refine xr_VR (y := yX4_word) (As := []) (r := (some a0)) F (hno _) dX4_line_1 (fun z => fX4_word_m (xFG F) z) (Or.inl rfl) (ci := 17) (C := RX4) (T := TX4) rfl q1790 q1787 q1789 qs17 (xroom hRm (Nat.le_of_ble_eq_true rfl) (Nat.le_of_ble_eq_true rfl)) ⟨by decide, by decide⟩ n_X4_word rfl (xcat (Nat.le_of_ble_eq_true rfl)) (fun v1 => ?_)
  refine xs_a_n [0] F dX4_line_4 hnL rfl rfl (xk2 rfl (xrf_cat _) xk0) ?_
  refine xr_aload_n 1 (r := (some a0)) F dX4_line_5 rfl ?_
  refine xr_gI (r := (some a0)) (ref := "ReserveLedger$Parser") F dX4_line_6 (C := RX4) (T := TX4) (N := 5) rfl (by decide) (Or.inl q1756) (Or.inl rfl) (fun v6 => ?_)
  refine xs_i_n [0, 1] F dX4_line_9 hnL rfl rfl (xk2 rfl (xrf_cat _) (xk1 rfl rfl xk0)) ?_
  refine xr_aload_n 2 (r := (some a0)) F dX4_line_10 rfl ?_
  refine xr_dup F dX4_line_11 (xrf_cat _) ?_
  refine xr_gI (r := (some a0)) (ref := "ReserveLedger$Parser") F dX4_line_12 (C := RX4) (T := TX4) (N := 5) rfl (by decide) (Or.inl q1756) (Or.inl rfl) (fun v12 => ?_)
  refine xr_aload_n 1 (r := v1) F dX4_line_15 rfl ?_
  refine xr_VI (y := yJ9_length) (As := []) (r := v1) F (hno _) dX4_line_16 (fun z => fJ9_length_m (xFG F) z) (Or.inl rfl) (ci := 5) (C := RJ9) (T := TJ9) rfl q383 q1796 q381 q382 (xroom hRm (Nat.le_of_ble_eq_true rfl) (Nat.le_of_ble_eq_true rfl)) ⟨by decide, by decide⟩ n_J9_length rfl (xcat (Nat.le_of_ble_eq_true rfl)) (fun v16 => ?_)
  refine xr_iadd F dX4_line_19 ?_
  refine xr_put (r := (some a0)) (ref := "ReserveLedger$Parser") F dX4_line_20 xk_17 (by decide) (Or.inl q1756) (Or.inl rfl) (Or.inl rfl) ⟨rfl, rfl⟩ ?_
  refine xr_aload_n 1 (r := v1) F dX4_line_23 rfl ?_
  refine xr_str (k := 1) F dX4_line_24 rfl (fun v24 => ?_)
  refine xr_VI (y := yJ9_equals) (As := [va_rf v24]) (r := v1) F (hno _) dX4_line_26 (fun z => fJ9_equals_m (xFG F) z v24) (Or.inl rfl) (ci := 5) (C := RJ9) (T := TJ9) rfl q1149 q1798 q1147 q1148 (xroom hRm (Nat.le_of_ble_eq_true rfl) (Nat.le_of_ble_eq_true rfl)) ⟨by decide, by decide⟩ n_J9_equals rfl (xcat (Nat.le_of_ble_eq_true rfl)) (fun v26 => ?_)
  refine xr_if_eq 48 F dX4_line_29 rfl ?_ ?_
  · refine xr_aload_n 1 (r := v1) F dX4_line_48 rfl ?_
    refine xr_str (k := 2) F dX4_line_49 rfl (fun v49 => ?_)
    refine xr_VI (y := yJ9_equals) (As := [va_rf v49]) (r := v1) F (hno _) dX4_line_51 (fun z => fJ9_equals_m (xFG F) z v49) (Or.inl rfl) (ci := 5) (C := RJ9) (T := TJ9) rfl q1149 q1798 q1147 q1148 (xroom hRm (Nat.le_of_ble_eq_true rfl) (Nat.le_of_ble_eq_true rfl)) ⟨by decide, by decide⟩ n_J9_equals rfl (xcat (Nat.le_of_ble_eq_true rfl)) (fun v51 => ?_)
    refine xr_if_eq 63 F dX4_line_54 rfl ?_ ?_
    · refine xr_aload_n 2 (r := (some a0)) F dX4_line_63 rfl ?_
      refine xr_aload_n 2 (r := (some a0)) F dX4_line_64 rfl ?_
      refine xr_gR (r := (some a0)) (ref := "ReserveLedger$Parser") F dX4_line_65 (C := RX4) (T := TX4) (N := 5) rfl (by decide) (Or.inl q1758) (Or.inl rfl) (fun v65 => ?_)
      refine xr_gR (r := v65) (ref := "ReserveLedger$State") F dX4_line_68 (C := RX2) (T := TX2) (N := 5) rfl (by decide) (Or.inr ⟨_, q585⟩) (Or.inl rfl) (fun v68 => ?_)
      refine xr_FI (x0 := ⟨"java/util/List", "isEmpty", "()Z"⟩) (y := yJ2_isEmpty) (As := []) (r := v68) F (hno _) dX4_line_71 (fun z => fJ2_isEmpty_m (xFG F) z) rfl (ci := 2) (C := RJ2) (T := TJ2) rfl q2145 q2138 q2143 q2141 q2140 q2139 q2144 q2142 q688 (xroom hRm (Nat.le_of_ble_eq_true rfl) (Nat.le_of_ble_eq_true rfl)) ⟨by decide, by decide⟩ n_J2_isEmpty rfl (xcat (Nat.le_of_ble_eq_true rfl)) (fun v71 => ?_)
      refine xr_if_ne 83 F dX4_line_76 rfl ?_ ?_
      · refine xr_iconst (1 : Int32) F dX4_line_79 rfl ?_
        refine xr_goto 84 F dX4_line_80 rfl ?_
        exact xI.sub [2, 1, 0] rfl (fX4_line_p84_ok F hnL hRm hno hmn a0 v1 v6 (1 : Int32) a0)
      · refine xr_iconst (0 : Int32) F dX4_line_83 rfl ?_
        exact xI.sub [2, 1, 0] rfl (fX4_line_p84_ok F hnL hRm hno hmn a0 v1 v6 (0 : Int32) a0)
    · refine xr_aload_n 2 (r := (some a0)) F dX4_line_57 rfl ?_
      refine xr_iload_n 0 F dX4_line_58 rfl ?_
      refine xr_VV (y := yX4_species) (As := [.int v6]) (r := (some a0)) F (hno _) dX4_line_59 (fun z => fX4_species_m (xFG F) z v6) (Or.inl rfl) (ci := 17) (C := RX4) (T := TX4) rfl q1843 q1840 q1842 qs21 (xroom hRm (Nat.le_of_ble_eq_true rfl) (Nat.le_of_ble_eq_true rfl)) ⟨by decide, by decide⟩ n_X4_species rfl (xcat (Nat.le_of_ble_eq_true rfl)) (fun _ => ?_)
      exact xr_vret F dX4_line_62
  · refine xr_aload_n 2 (r := (some a0)) F dX4_line_32 rfl ?_
    refine xr_gR (r := (some a0)) (ref := "ReserveLedger$Parser") F dX4_line_33 (C := RX4) (T := TX4) (N := 5) rfl (by decide) (Or.inl q1758) (Or.inl rfl) (fun v33 => ?_)
    refine xr_aload_n 2 (r := (some a0)) F dX4_line_36 rfl ?_
    refine xr_iconst (0 : Int32) F dX4_line_37 rfl ?_
    refine xr_sipush (9999 : Int32) F dX4_line_38 rfl ?_
    refine xr_VI (y := yX4_number) (As := [.int (0 : Int32), .int (9999 : Int32)]) (r := (some a0)) F (hno _) dX4_line_41 (fun z => fX4_number_m (xFG F) z (0 : Int32) (9999 : Int32)) (Or.inl rfl) (ci := 17) (C := RX4) (T := TX4) rfl q1802 q1799 q1801 qs18 (xroom hRm (Nat.le_of_ble_eq_true rfl) (Nat.le_of_ble_eq_true rfl)) ⟨by decide, by decide⟩ n_X4_number rfl (xcat (Nat.le_of_ble_eq_true rfl)) (fun v41 => ?_)
    refine xr_put (r := v33) (ref := "ReserveLedger$State") F dX4_line_44 xk_1 (by decide) (Or.inr ⟨_, q590⟩) (Or.inl rfl) (Or.inl rfl) ⟨rfl, rfl⟩ ?_
    exact xr_vret F dX4_line_47
