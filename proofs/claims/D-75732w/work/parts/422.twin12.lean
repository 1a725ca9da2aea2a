/-! part 422: the twin: copies, forecasts (copies printed by a program) -/
def pCpy (f g : Nat → Int32) (a b k : Nat) : Nat → Int32 := fun j => if b ≤ j ∧ j < b + k then f (a + (j - b)) else g j
theorem pCpy_0 {f g : Nat → Int32} {a b : Nat} : pCpy f g a b 0 = g := by
  funext j
  unfold pCpy
  rw [if_neg (by omega)]
theorem pCpy_step {f g : Nat → Int32} {a b k : Nat} : va_up (pCpy f g a b k) (b + k) (f (a + k)) = pCpy f g a b (k + 1) := by
  funext j
  rw [va_ap]
  unfold pCpy
  by_cases hj : j = b + k
  · rw [if_pos hj, if_pos (by omega)]
    congr 1
    omega
  · rw [if_neg hj]
    by_cases hc : b ≤ j ∧ j < b + k
    · rw [if_pos hc, if_pos (by omega)]
    · rw [if_neg hc, if_neg (by omega)]
section TW13
variable {Γ : Nat → Option Nat} {m n : Nat} {I : Nat → Int32} {S : Nat → Int64} {h : xH}
theorem t_copies_p3_12 {A : Nat → Nat → Int32} {oa ob : Nat} (ha : oa + 592 ≤ 592) (hb : ob + 592 ≤ 592) : ∀ (r k fu : Nat), k + r = 592 → r < fu → fX3_copies_p3 fu (some (m + 1)) (Int32.ofNat oa) (some (m + 2)) (Int32.ofNat ob) (Int32.ofNat k) Γ (tw m I (va_up A 2 (pCpy (A 1) (A 2) oa ob k)) S h) n = some (.inl (), tw m I (va_up A 2 (pCpy (A 1) (A 2) oa ob 592)) S h, 0, 0) := by
  intro r
  induction r with
  | zero =>
    intro k fu hk hf
    obtain ⟨fu, rfl⟩ : ∃ g, fu = g + 1 := ⟨fu - 1, by omega⟩
    have hk' : k = 592 := by omega
    subst hk'
    have c1 : Int32.ofNat 592 ≤ Int32.ofNat 592 := by decide
    rw [fX3_copies_p3]
    simp (maxDischargeDepth := 9) only [xbind, xlet, xpure, tw_sel, tg_0, tg_4, tg_9, tg_12, tg_13, tg_14, tg_15, tg_16, tg_17, tg_18, tg_19, tg_20, tg_21, tg_24, tr_1, tr_2, tr_3, tr_5, tr_6, tr_7, tr_8, tr_10, tr_11, tr_22, tr_23, tp_0, tp_4, tp_9, tp_12, tp_13, tp_14, tp_15, tp_16, tp_17, tp_18, tp_19, tp_20, tp_21, tp_24, va_up_self, va_up_ne, va_uu, i_ofNat, i_add, i_mul, Nat.add_zero, Nat.zero_add, reduceIte, if_true, if_false, Nat.reduceEqDiff, ne_eq, not_false_eq_true, Nat.reduceEqDiff, not_true_eq_false, c1]
  | succ r ih =>
    intro k fu hk hf
    obtain ⟨fu, rfl⟩ : ∃ g, fu = g + 1 := ⟨fu - 1, by omega⟩
    have c1 : ¬ Int32.ofNat 592 ≤ Int32.ofNat k := by rw [i_le (by omega) (by omega)]; omega
    have e := ih (k + 1) fu (by omega) (by omega)
    rw [fX3_copies_p3]
    simp (maxDischargeDepth := 9) only [xbind, xlet, xpure, tw_sel, tg_0, tg_4, tg_9, tg_12, tg_13, tg_14, tg_15, tg_16, tg_17, tg_18, tg_19, tg_20, tg_21, tg_24, tr_1, tr_2, tr_3, tr_5, tr_6, tr_7, tr_8, tr_10, tr_11, tr_22, tr_23, tp_0, tp_4, tp_9, tp_12, tp_13, tp_14, tp_15, tp_16, tp_17, tp_18, tp_19, tp_20, tp_21, tp_24, va_up_self, va_up_ne, va_uu, i_ofNat, i_add, i_mul, Nat.add_zero, Nat.zero_add, reduceIte, if_true, if_false, Nat.reduceEqDiff, ne_eq, not_false_eq_true, Nat.reduceEqDiff, not_true_eq_false, c1, tl_1 (show oa + k < 592 by omega), ts_2 (show ob + k < 592 by omega), pCpy_step, e]
theorem t_copies_12 {A : Nat → Nat → Int32} {oa ob : Nat} (ha : oa + 592 ≤ 592) (hb : ob + 592 ≤ 592) : fX3_copies m (some (m + 1)) (Int32.ofNat oa) (some (m + 2)) (Int32.ofNat ob) Γ (tw m I A S h) n = some (.inl (), tw m I (va_up A 2 (pCpy (A 1) (A 2) oa ob 592)) S h, 0, 0) := by
  have e := t_copies_p3_12 (Γ := Γ) (n := n) (m := m) (I := I) (A := A) (S := S) (h := h) ha hb 592 0 xFU (by omega) (by unfold xFU; omega)
  rw [pCpy_0, va_id] at e
  simp (maxDischargeDepth := 9) only [fX3_copies, xbind, xlet, xpure, tw_sel, tg_0, tg_4, tg_9, tg_12, tg_13, tg_14, tg_15, tg_16, tg_17, tg_18, tg_19, tg_20, tg_21, tg_24, tr_1, tr_2, tr_3, tr_5, tr_6, tr_7, tr_8, tr_10, tr_11, tr_22, tr_23, tp_0, tp_4, tp_9, tp_12, tp_13, tp_14, tp_15, tp_16, tp_17, tp_18, tp_19, tp_20, tp_21, tp_24, va_up_self, va_up_ne, va_uu, i_ofNat, i_add, i_mul, Nat.add_zero, Nat.zero_add, reduceIte, if_true, if_false, Nat.reduceEqDiff, ne_eq, not_false_eq_true, Nat.reduceEqDiff, not_true_eq_false, e]
theorem t_copies_p3_21 {A : Nat → Nat → Int32} {oa ob : Nat} (ha : oa + 592 ≤ 592) (hb : ob + 592 ≤ 592) : ∀ (r k fu : Nat), k + r = 592 → r < fu → fX3_copies_p3 fu (some (m + 2)) (Int32.ofNat oa) (some (m + 1)) (Int32.ofNat ob) (Int32.ofNat k) Γ (tw m I (va_up A 1 (pCpy (A 2) (A 1) oa ob k)) S h) n = some (.inl (), tw m I (va_up A 1 (pCpy (A 2) (A 1) oa ob 592)) S h, 0, 0) := by
  intro r
  induction r with
  | zero =>
    intro k fu hk hf
    obtain ⟨fu, rfl⟩ : ∃ g, fu = g + 1 := ⟨fu - 1, by omega⟩
    have hk' : k = 592 := by omega
    subst hk'
    have c1 : Int32.ofNat 592 ≤ Int32.ofNat 592 := by decide
    rw [fX3_copies_p3]
    simp (maxDischargeDepth := 9) only [xbind, xlet, xpure, tw_sel, tg_0, tg_4, tg_9, tg_12, tg_13, tg_14, tg_15, tg_16, tg_17, tg_18, tg_19, tg_20, tg_21, tg_24, tr_1, tr_2, tr_3, tr_5, tr_6, tr_7, tr_8, tr_10, tr_11, tr_22, tr_23, tp_0, tp_4, tp_9, tp_12, tp_13, tp_14, tp_15, tp_16, tp_17, tp_18, tp_19, tp_20, tp_21, tp_24, va_up_self, va_up_ne, va_uu, i_ofNat, i_add, i_mul, Nat.add_zero, Nat.zero_add, reduceIte, if_true, if_false, Nat.reduceEqDiff, ne_eq, not_false_eq_true, Nat.reduceEqDiff, not_true_eq_false, c1]
  | succ r ih =>
    intro k fu hk hf
    obtain ⟨fu, rfl⟩ : ∃ g, fu = g + 1 := ⟨fu - 1, by omega⟩
    have c1 : ¬ Int32.ofNat 592 ≤ Int32.ofNat k := by rw [i_le (by omega) (by omega)]; omega
    have e := ih (k + 1) fu (by omega) (by omega)
    rw [fX3_copies_p3]
    simp (maxDischargeDepth := 9) only [xbind, xlet, xpure, tw_sel, tg_0, tg_4, tg_9, tg_12, tg_13, tg_14, tg_15, tg_16, tg_17, tg_18, tg_19, tg_20, tg_21, tg_24, tr_1, tr_2, tr_3, tr_5, tr_6, tr_7, tr_8, tr_10, tr_11, tr_22, tr_23, tp_0, tp_4, tp_9, tp_12, tp_13, tp_14, tp_15, tp_16, tp_17, tp_18, tp_19, tp_20, tp_21, tp_24, va_up_self, va_up_ne, va_uu, i_ofNat, i_add, i_mul, Nat.add_zero, Nat.zero_add, reduceIte, if_true, if_false, Nat.reduceEqDiff, ne_eq, not_false_eq_true, Nat.reduceEqDiff, not_true_eq_false, c1, tl_2 (show oa + k < 592 by omega), ts_1 (show ob + k < 592 by omega), pCpy_step, e]
theorem t_copies_21 {A : Nat → Nat → Int32} {oa ob : Nat} (ha : oa + 592 ≤ 592) (hb : ob + 592 ≤ 592) : fX3_copies m (some (m + 2)) (Int32.ofNat oa) (some (m + 1)) (Int32.ofNat ob) Γ (tw m I A S h) n = some (.inl (), tw m I (va_up A 1 (pCpy (A 2) (A 1) oa ob 592)) S h, 0, 0) := by
  have e := t_copies_p3_21 (Γ := Γ) (n := n) (m := m) (I := I) (A := A) (S := S) (h := h) ha hb 592 0 xFU (by omega) (by unfold xFU; omega)
  rw [pCpy_0, va_id] at e
  simp (maxDischargeDepth := 9) only [fX3_copies, xbind, xlet, xpure, tw_sel, tg_0, tg_4, tg_9, tg_12, tg_13, tg_14, tg_15, tg_16, tg_17, tg_18, tg_19, tg_20, tg_21, tg_24, tr_1, tr_2, tr_3, tr_5, tr_6, tr_7, tr_8, tr_10, tr_11, tr_22, tr_23, tp_0, tp_4, tp_9, tp_12, tp_13, tp_14, tp_15, tp_16, tp_17, tp_18, tp_19, tp_20, tp_21, tp_24, va_up_self, va_up_ne, va_uu, i_ofNat, i_add, i_mul, Nat.add_zero, Nat.zero_add, reduceIte, if_true, if_false, Nat.reduceEqDiff, ne_eq, not_false_eq_true, Nat.reduceEqDiff, not_true_eq_false, e]
theorem t_copies_p3_13 {A : Nat → Nat → Int32} {oa ob : Nat} (ha : oa + 592 ≤ 592) (hb : ob + 592 ≤ 4736) : ∀ (r k fu : Nat), k + r = 592 → r < fu → fX3_copies_p3 fu (some (m + 1)) (Int32.ofNat oa) (some (m + 3)) (Int32.ofNat ob) (Int32.ofNat k) Γ (tw m I (va_up A 3 (pCpy (A 1) (A 3) oa ob k)) S h) n = some (.inl (), tw m I (va_up A 3 (pCpy (A 1) (A 3) oa ob 592)) S h, 0, 0) := by
  intro r
  induction r with
  | zero =>
    intro k fu hk hf
    obtain ⟨fu, rfl⟩ : ∃ g, fu = g + 1 := ⟨fu - 1, by omega⟩
    have hk' : k = 592 := by omega
    subst hk'
    have c1 : Int32.ofNat 592 ≤ Int32.ofNat 592 := by decide
    rw [fX3_copies_p3]
    simp (maxDischargeDepth := 9) only [xbind, xlet, xpure, tw_sel, tg_0, tg_4, tg_9, tg_12, tg_13, tg_14, tg_15, tg_16, tg_17, tg_18, tg_19, tg_20, tg_21, tg_24, tr_1, tr_2, tr_3, tr_5, tr_6, tr_7, tr_8, tr_10, tr_11, tr_22, tr_23, tp_0, tp_4, tp_9, tp_12, tp_13, tp_14, tp_15, tp_16, tp_17, tp_18, tp_19, tp_20, tp_21, tp_24, va_up_self, va_up_ne, va_uu, i_ofNat, i_add, i_mul, Nat.add_zero, Nat.zero_add, reduceIte, if_true, if_false, Nat.reduceEqDiff, ne_eq, not_false_eq_true, Nat.reduceEqDiff, not_true_eq_false, c1]
  | succ r ih =>
    intro k fu hk hf
    obtain ⟨fu, rfl⟩ : ∃ g, fu = g + 1 := ⟨fu - 1, by omega⟩
    have c1 : ¬ Int32.ofNat 592 ≤ Int32.ofNat k := by rw [i_le (by omega) (by omega)]; omega
    have e := ih (k + 1) fu (by omega) (by omega)
    rw [fX3_copies_p3]
    simp (maxDischargeDepth := 9) only [xbind, xlet, xpure, tw_sel, tg_0, tg_4, tg_9, tg_12, tg_13, tg_14, tg_15, tg_16, tg_17, tg_18, tg_19, tg_20, tg_21, tg_24, tr_1, tr_2, tr_3, tr_5, tr_6, tr_7, tr_8, tr_10, tr_11, tr_22, tr_23, tp_0, tp_4, tp_9, tp_12, tp_13, tp_14, tp_15, tp_16, tp_17, tp_18, tp_19, tp_20, tp_21, tp_24, va_up_self, va_up_ne, va_uu, i_ofNat, i_add, i_mul, Nat.add_zero, Nat.zero_add, reduceIte, if_true, if_false, Nat.reduceEqDiff, ne_eq, not_false_eq_true, Nat.reduceEqDiff, not_true_eq_false, c1, tl_1 (show oa + k < 592 by omega), ts_3 (show ob + k < 4736 by omega), pCpy_step, e]
theorem t_copies_13 {A : Nat → Nat → Int32} {oa ob : Nat} (ha : oa + 592 ≤ 592) (hb : ob + 592 ≤ 4736) : fX3_copies m (some (m + 1)) (Int32.ofNat oa) (some (m + 3)) (Int32.ofNat ob) Γ (tw m I A S h) n = some (.inl (), tw m I (va_up A 3 (pCpy (A 1) (A 3) oa ob 592)) S h, 0, 0) := by
  have e := t_copies_p3_13 (Γ := Γ) (n := n) (m := m) (I := I) (A := A) (S := S) (h := h) ha hb 592 0 xFU (by omega) (by unfold xFU; omega)
  rw [pCpy_0, va_id] at e
  simp (maxDischargeDepth := 9) only [fX3_copies, xbind, xlet, xpure, tw_sel, tg_0, tg_4, tg_9, tg_12, tg_13, tg_14, tg_15, tg_16, tg_17, tg_18, tg_19, tg_20, tg_21, tg_24, tr_1, tr_2, tr_3, tr_5, tr_6, tr_7, tr_8, tr_10, tr_11, tr_22, tr_23, tp_0, tp_4, tp_9, tp_12, tp_13, tp_14, tp_15, tp_16, tp_17, tp_18, tp_19, tp_20, tp_21, tp_24, va_up_self, va_up_ne, va_uu, i_ofNat, i_add, i_mul, Nat.add_zero, Nat.zero_add, reduceIte, if_true, if_false, Nat.reduceEqDiff, ne_eq, not_false_eq_true, Nat.reduceEqDiff, not_true_eq_false, e]
theorem t_copies_p3_31 {A : Nat → Nat → Int32} {oa ob : Nat} (ha : oa + 592 ≤ 4736) (hb : ob + 592 ≤ 592) : ∀ (r k fu : Nat), k + r = 592 → r < fu → fX3_copies_p3 fu (some (m + 3)) (Int32.ofNat oa) (some (m + 1)) (Int32.ofNat ob) (Int32.ofNat k) Γ (tw m I (va_up A 1 (pCpy (A 3) (A 1) oa ob k)) S h) n = some (.inl (), tw m I (va_up A 1 (pCpy (A 3) (A 1) oa ob 592)) S h, 0, 0) := by
  intro r
  induction r with
  | zero =>
    intro k fu hk hf
    obtain ⟨fu, rfl⟩ : ∃ g, fu = g + 1 := ⟨fu - 1, by omega⟩
    have hk' : k = 592 := by omega
    subst hk'
    have c1 : Int32.ofNat 592 ≤ Int32.ofNat 592 := by decide
    rw [fX3_copies_p3]
    simp (maxDischargeDepth := 9) only [xbind, xlet, xpure, tw_sel, tg_0, tg_4, tg_9, tg_12, tg_13, tg_14, tg_15, tg_16, tg_17, tg_18, tg_19, tg_20, tg_21, tg_24, tr_1, tr_2, tr_3, tr_5, tr_6, tr_7, tr_8, tr_10, tr_11, tr_22, tr_23, tp_0, tp_4, tp_9, tp_12, tp_13, tp_14, tp_15, tp_16, tp_17, tp_18, tp_19, tp_20, tp_21, tp_24, va_up_self, va_up_ne, va_uu, i_ofNat, i_add, i_mul, Nat.add_zero, Nat.zero_add, reduceIte, if_true, if_false, Nat.reduceEqDiff, ne_eq, not_false_eq_true, Nat.reduceEqDiff, not_true_eq_false, c1]
  | succ r ih =>
    intro k fu hk hf
    obtain ⟨fu, rfl⟩ : ∃ g, fu = g + 1 := ⟨fu - 1, by omega⟩
    have c1 : ¬ Int32.ofNat 592 ≤ Int32.ofNat k := by rw [i_le (by omega) (by omega)]; omega
    have e := ih (k + 1) fu (by omega) (by omega)
    rw [fX3_copies_p3]
    simp (maxDischargeDepth := 9) only [xbind, xlet, xpure, tw_sel, tg_0, tg_4, tg_9, tg_12, tg_13, tg_14, tg_15, tg_16, tg_17, tg_18, tg_19, tg_20, tg_21, tg_24, tr_1, tr_2, tr_3, tr_5, tr_6, tr_7, tr_8, tr_10, tr_11, tr_22, tr_23, tp_0, tp_4, tp_9, tp_12, tp_13, tp_14, tp_15, tp_16, tp_17, tp_18, tp_19, tp_20, tp_21, tp_24, va_up_self, va_up_ne, va_uu, i_ofNat, i_add, i_mul, Nat.add_zero, Nat.zero_add, reduceIte, if_true, if_false, Nat.reduceEqDiff, ne_eq, not_false_eq_true, Nat.reduceEqDiff, not_true_eq_false, c1, tl_3 (show oa + k < 4736 by omega), ts_1 (show ob + k < 592 by omega), pCpy_step, e]
theorem t_copies_31 {A : Nat → Nat → Int32} {oa ob : Nat} (ha : oa + 592 ≤ 4736) (hb : ob + 592 ≤ 592) : fX3_copies m (some (m + 3)) (Int32.ofNat oa) (some (m + 1)) (Int32.ofNat ob) Γ (tw m I A S h) n = some (.inl (), tw m I (va_up A 1 (pCpy (A 3) (A 1) oa ob 592)) S h, 0, 0) := by
  have e := t_copies_p3_31 (Γ := Γ) (n := n) (m := m) (I := I) (A := A) (S := S) (h := h) ha hb 592 0 xFU (by omega) (by unfold xFU; omega)
  rw [pCpy_0, va_id] at e
  simp (maxDischargeDepth := 9) only [fX3_copies, xbind, xlet, xpure, tw_sel, tg_0, tg_4, tg_9, tg_12, tg_13, tg_14, tg_15, tg_16, tg_17, tg_18, tg_19, tg_20, tg_21, tg_24, tr_1, tr_2, tr_3, tr_5, tr_6, tr_7, tr_8, tr_10, tr_11, tr_22, tr_23, tp_0, tp_4, tp_9, tp_12, tp_13, tp_14, tp_15, tp_16, tp_17, tp_18, tp_19, tp_20, tp_21, tp_24, va_up_self, va_up_ne, va_uu, i_ofNat, i_add, i_mul, Nat.add_zero, Nat.zero_add, reduceIte, if_true, if_false, Nat.reduceEqDiff, ne_eq, not_false_eq_true, Nat.reduceEqDiff, not_true_eq_false, e]
theorem t_putsAside {A : Nat → Nat → Int32} : fX3_putsAside m Γ (tw m I A S h) n = some (.inl (), tw m I (va_up A 2 (pCpy (A 1) (A 2) 0 0 592)) S h, 0, 0) := by
  have e := t_copies_12 (Γ := Γ) (n := n) (m := m) (I := I) (A := A) (S := S) (h := h) (oa := 0) (ob := 0) (by omega) (by omega)
  simp (maxDischargeDepth := 9) only [fX3_putsAside, xbind, xlet, xpure, tw_sel, tg_0, tg_4, tg_9, tg_12, tg_13, tg_14, tg_15, tg_16, tg_17, tg_18, tg_19, tg_20, tg_21, tg_24, tr_1, tr_2, tr_3, tr_5, tr_6, tr_7, tr_8, tr_10, tr_11, tr_22, tr_23, tp_0, tp_4, tp_9, tp_12, tp_13, tp_14, tp_15, tp_16, tp_17, tp_18, tp_19, tp_20, tp_21, tp_24, va_up_self, va_up_ne, va_uu, i_ofNat, i_add, i_mul, Nat.add_zero, Nat.zero_add, reduceIte, if_true, if_false, Nat.reduceEqDiff, ne_eq, not_false_eq_true, Nat.reduceEqDiff, not_true_eq_false, e]
theorem t_takesBack {A : Nat → Nat → Int32} : fX3_takesBack m Γ (tw m I A S h) n = some (.inl (), tw m I (va_up A 1 (pCpy (A 2) (A 1) 0 0 592)) S h, 0, 0) := by
  have e := t_copies_21 (Γ := Γ) (n := n) (m := m) (I := I) (A := A) (S := S) (h := h) (oa := 0) (ob := 0) (by omega) (by omega)
  simp (maxDischargeDepth := 9) only [fX3_takesBack, xbind, xlet, xpure, tw_sel, tg_0, tg_4, tg_9, tg_12, tg_13, tg_14, tg_15, tg_16, tg_17, tg_18, tg_19, tg_20, tg_21, tg_24, tr_1, tr_2, tr_3, tr_5, tr_6, tr_7, tr_8, tr_10, tr_11, tr_22, tr_23, tp_0, tp_4, tp_9, tp_12, tp_13, tp_14, tp_15, tp_16, tp_17, tp_18, tp_19, tp_20, tp_21, tp_24, va_up_self, va_up_ne, va_uu, i_ofNat, i_add, i_mul, Nat.add_zero, Nat.zero_add, reduceIte, if_true, if_false, Nat.reduceEqDiff, ne_eq, not_false_eq_true, Nat.reduceEqDiff, not_true_eq_false, e]
/-- put aside, changed below 592 only, taken back: as it was -/
theorem pCpy_back {f f2 g : Nat → Int32} (h : ∀ j, 592 ≤ j → f2 j = f j) : pCpy (pCpy f g 0 0 592) f2 0 0 592 = f := by
  funext j
  unfold pCpy
  by_cases hj : 0 ≤ j ∧ j < 0 + 592
  · rw [if_pos hj, if_pos (by omega)]
    congr 1
    omega
  · rw [if_neg hj, h j (by omega)]
def pGoes (s o : Nat) : Nat → (Nat → Int32) → (Nat → Int32)
  | 0, N => N
  | k + 1, N => pGoes s o k (pAges N s o)
theorem pGoes_ne {s o : Nat} (ho : o ≤ 12) : ∀ (k : Nat) (N : Nat → Int32) (j : Nat), (∀ k, 3 ≤ k → k < 52 → j ≠ zI s k) → pGoes s o k N j = N j := by
  intro k
  induction k with
  | zero => intro N j h; rfl
  | succ k ih =>
    intro N j h
    unfold pGoes
    rw [ih _ j h, pAges_ne ho h]
theorem t_goes_p2 {s o y : Nat} (hs : s < 4) (ho' : o ≤ 12) (hy : y < 1000) : ∀ (k x fu : Nat) (A : Nat → Nat → Int32), A 1 (zI s 1) = Int32.ofNat o → x + k = y → k < fu → fX3_goes_p2 fu m (Int32.ofNat s) (Int32.ofNat y) (Int32.ofNat x) Γ (tw m I A S h) n = some (.inl (), tw m I (va_up A 1 (pGoes s o k (A 1))) S h, 0, 0) := by
  intro k
  induction k with
  | zero =>
    intro x fu A ho hx hf
    obtain ⟨fu, rfl⟩ : ∃ g, fu = g + 1 := ⟨fu - 1, by omega⟩
    have c1 : Int32.ofNat y ≤ Int32.ofNat x := by rw [i_le (by omega) (by omega)]; omega
    rw [fX3_goes_p2]
    simp (maxDischargeDepth := 9) only [xbind, xlet, xpure, tw_sel, tg_0, tg_4, tg_9, tg_12, tg_13, tg_14, tg_15, tg_16, tg_17, tg_18, tg_19, tg_20, tg_21, tg_24, tr_1, tr_2, tr_3, tr_5, tr_6, tr_7, tr_8, tr_10, tr_11, tr_22, tr_23, tp_0, tp_4, tp_9, tp_12, tp_13, tp_14, tp_15, tp_16, tp_17, tp_18, tp_19, tp_20, tp_21, tp_24, va_up_self, va_up_ne, va_uu, i_ofNat, i_add, i_mul, Nat.add_zero, Nat.zero_add, reduceIte, if_true, if_false, Nat.reduceEqDiff, ne_eq, not_false_eq_true, Nat.reduceEqDiff, not_true_eq_false, c1, pGoes, va_id]
  | succ k ih =>
    intro x fu A ho hx hf
    obtain ⟨fu, rfl⟩ : ∃ g, fu = g + 1 := ⟨fu - 1, by omega⟩
    have c1 : ¬ Int32.ofNat y ≤ Int32.ofNat x := by rw [i_le (by omega) (by omega)]; omega
    have e1 := t_ages (Γ := Γ) (n := n) (m := m) (I := I) (A := A) (S := S) (h := h) hs ho ho'
    have e2 := ih (x + 1) fu (va_up A 1 (pAges (A 1) s o)) (by rw [va_up_self, pAges_ne ho' (fun k h1 h2 => zI_ne (by omega))]; exact ho) (by omega) (by omega)
    simp (maxDischargeDepth := 9) only [xbind, xlet, xpure, tw_sel, tg_0, tg_4, tg_9, tg_12, tg_13, tg_14, tg_15, tg_16, tg_17, tg_18, tg_19, tg_20, tg_21, tg_24, tr_1, tr_2, tr_3, tr_5, tr_6, tr_7, tr_8, tr_10, tr_11, tr_22, tr_23, tp_0, tp_4, tp_9, tp_12, tp_13, tp_14, tp_15, tp_16, tp_17, tp_18, tp_19, tp_20, tp_21, tp_24, va_up_self, va_up_ne, va_uu, i_ofNat, i_add, i_mul, Nat.add_zero, Nat.zero_add, reduceIte, if_true, if_false, Nat.reduceEqDiff, ne_eq, not_false_eq_true, Nat.reduceEqDiff, not_true_eq_false] at e2
    rw [fX3_goes_p2]
    simp (maxDischargeDepth := 9) only [xbind, xlet, xpure, tw_sel, tg_0, tg_4, tg_9, tg_12, tg_13, tg_14, tg_15, tg_16, tg_17, tg_18, tg_19, tg_20, tg_21, tg_24, tr_1, tr_2, tr_3, tr_5, tr_6, tr_7, tr_8, tr_10, tr_11, tr_22, tr_23, tp_0, tp_4, tp_9, tp_12, tp_13, tp_14, tp_15, tp_16, tp_17, tp_18, tp_19, tp_20, tp_21, tp_24, va_up_self, va_up_ne, va_uu, i_ofNat, i_add, i_mul, Nat.add_zero, Nat.zero_add, reduceIte, if_true, if_false, Nat.reduceEqDiff, ne_eq, not_false_eq_true, Nat.reduceEqDiff, not_true_eq_false, c1, e1, e2, pGoes]
theorem t_goes {A : Nat → Nat → Int32} {s o y : Nat} (hs : s < 4) (ho : A 1 (zI s 1) = Int32.ofNat o) (ho' : o ≤ 12) (hy : y < 1000) : fX3_goes m (Int32.ofNat s) (Int32.ofNat y) Γ (tw m I A S h) n = some (.inl (), tw m I (va_up A 1 (pGoes s o y (A 1))) S h, 0, 0) := by
  have e := t_goes_p2 (Γ := Γ) (n := n) (m := m) (I := I) (S := S) (h := h) hs ho' hy y 0 xFU A ho (by omega) (by unfold xFU; omega)
  simp (maxDischargeDepth := 9) only [fX3_goes, xbind, xlet, xpure, tw_sel, tg_0, tg_4, tg_9, tg_12, tg_13, tg_14, tg_15, tg_16, tg_17, tg_18, tg_19, tg_20, tg_21, tg_24, tr_1, tr_2, tr_3, tr_5, tr_6, tr_7, tr_8, tr_10, tr_11, tr_22, tr_23, tp_0, tp_4, tp_9, tp_12, tp_13, tp_14, tp_15, tp_16, tp_17, tp_18, tp_19, tp_20, tp_21, tp_24, va_up_self, va_up_ne, va_uu, i_ofNat, i_add, i_mul, Nat.add_zero, Nat.zero_add, reduceIte, if_true, if_false, Nat.reduceEqDiff, ne_eq, not_false_eq_true, Nat.reduceEqDiff, not_true_eq_false, e]
theorem va_sw {α : Type} (f : Nat → α) {i j : Nat} (v w : α) (hn : i ≠ j) : va_up (va_up f i v) j w = va_up (va_up f j w) i v := by
  funext q
  simp only [va_ap]
  by_cases h1 : q = j
  · subst h1
    rw [if_pos rfl, if_neg (fun z => hn z.symm), if_pos rfl]
  · by_cases h2 : q = i
    · subst h2
      rw [if_neg h1, if_pos rfl, if_pos rfl]
    · rw [if_neg h1, if_neg h2, if_neg h2, if_neg h1]
theorem t_totalBehind {A : Nat → Nat → Int32} {s o y : Nat} (hs : s < 4) (ho : A 1 (zI s 1) = Int32.ofNat o) (ho' : o ≤ 12) (hy : y < 1000) : fX3_totalBehind m (Int32.ofNat s) (Int32.ofNat y) Γ (tw m I A S h) n = some (.inl (pTot (pGoes s o y (A 1)) s o), tw m I (va_up A 2 (pCpy (A 1) (A 2) 0 0 592)) S h, 0, 0) := by
  have e1 := t_putsAside (Γ := Γ) (n := n) (m := m) (I := I) (A := A) (S := S) (h := h)
  have e2 := t_goes (Γ := Γ) (n := n) (m := m) (I := I) (A := va_up A 2 (pCpy (A 1) (A 2) 0 0 592)) (S := S) (h := h) hs (by rw [va_up_ne _ _ (by omega)]; exact ho) ho' hy
  have hb : pGoes s o y (A 1) (zI s 1) = Int32.ofNat o := by rw [pGoes_ne ho' _ _ _ (fun k h1 h2 => zI_ne (by omega))]; exact ho
  have e3 := t_totalOf (Γ := Γ) (n := n) (m := m) (I := I) (A := va_up (va_up A 2 (pCpy (A 1) (A 2) 0 0 592)) 1 (pGoes s o y (A 1))) (S := S) (h := h) hs (by rw [va_up_self]; exact hb) ho'
  have e4 := t_takesBack (Γ := Γ) (n := n) (m := m) (I := I) (A := va_up (va_up A 2 (pCpy (A 1) (A 2) 0 0 592)) 1 (pGoes s o y (A 1))) (S := S) (h := h)
  have hk : pCpy (pCpy (A 1) (A 2) 0 0 592) (pGoes s o y (A 1)) 0 0 592 = A 1 := pCpy_back (fun j hj => pGoes_ne ho' _ _ _ (fun k h1 h2 => by unfold zI; omega))
  have hA : va_up (va_up A 2 (pCpy (A 1) (A 2) 0 0 592)) 1 (A 1) = va_up A 2 (pCpy (A 1) (A 2) 0 0 592) := by
    rw [va_sw _ _ _ (by omega), va_id]
  simp (maxDischargeDepth := 9) only [xbind, xlet, xpure, tw_sel, tg_0, tg_4, tg_9, tg_12, tg_13, tg_14, tg_15, tg_16, tg_17, tg_18, tg_19, tg_20, tg_21, tg_24, tr_1, tr_2, tr_3, tr_5, tr_6, tr_7, tr_8, tr_10, tr_11, tr_22, tr_23, tp_0, tp_4, tp_9, tp_12, tp_13, tp_14, tp_15, tp_16, tp_17, tp_18, tp_19, tp_20, tp_21, tp_24, va_up_self, va_up_ne, va_uu, i_ofNat, i_add, i_mul, Nat.add_zero, Nat.zero_add, reduceIte, if_true, if_false, Nat.reduceEqDiff, ne_eq, not_false_eq_true, Nat.reduceEqDiff, not_true_eq_false] at e2 e3 e4
  rw [hk, hA] at e4
  simp (maxDischargeDepth := 9) only [fX3_totalBehind, xbind, xlet, xpure, tw_sel, tg_0, tg_4, tg_9, tg_12, tg_13, tg_14, tg_15, tg_16, tg_17, tg_18, tg_19, tg_20, tg_21, tg_24, tr_1, tr_2, tr_3, tr_5, tr_6, tr_7, tr_8, tr_10, tr_11, tr_22, tr_23, tp_0, tp_4, tp_9, tp_12, tp_13, tp_14, tp_15, tp_16, tp_17, tp_18, tp_19, tp_20, tp_21, tp_24, va_up_self, va_up_ne, va_uu, i_ofNat, i_add, i_mul, Nat.add_zero, Nat.zero_add, reduceIte, if_true, if_false, Nat.reduceEqDiff, ne_eq, not_false_eq_true, Nat.reduceEqDiff, not_true_eq_false, e1, e2, e3, e4]
end TW13
