/-! part 426: the twin: a plan is made -/
def pPl (N M : Nat → Int32) (k w : Nat) : Nat → Int32 := fun j => if 4 + 5 * k ≤ j ∧ j < 4 + 5 * k + w then M (j - (4 + 5 * k)) else N j
theorem pPl_0 {N M : Nat → Int32} {k : Nat} : pPl N M k 0 = N := by
  funext j
  unfold pPl
  rw [if_neg (by omega)]
theorem pPl_step {N M : Nat → Int32} {k w : Nat} : va_up (pPl N M k w) (4 + 5 * k + w) (M w) = pPl N M k (w + 1) := by
  funext j
  rw [va_ap]
  unfold pPl
  by_cases hj : j = 4 + 5 * k + w
  · rw [if_pos hj, if_pos (by omega)]
    congr 1
    omega
  · rw [if_neg hj]
    by_cases hc : 4 + 5 * k ≤ j ∧ j < 4 + 5 * k + w
    · rw [if_pos hc, if_pos (by omega)]
    · rw [if_neg hc, if_neg (by omega)]
theorem pIns_of {N M : Nat → Int32} {k cnt : Nat} (hn : N 3 = Int32.ofNat cnt) (hk : k ≤ cnt) : va_up (pPl (pMv N (4 + 5 * k) (4 + 5 * cnt)) M k 5) 3 (pPl (pMv N (4 + 5 * k) (4 + 5 * cnt)) M k 5 3 + Int32.ofNat 1) = pIns N M k cnt := by
  have e : pPl (pMv N (4 + 5 * k) (4 + 5 * cnt)) M k 5 3 = Int32.ofNat cnt := by
    unfold pPl pMv
    rw [if_neg (by omega), if_neg (by omega), hn]
  rw [e, i_add]
  funext j
  rw [va_ap]
  unfold pIns pPl pMv
  by_cases h3 : j = 3
  · rw [if_pos h3, if_pos h3]
  · rw [if_neg h3, if_neg h3]
    by_cases h1 : 4 + 5 * k ≤ j ∧ j < 4 + 5 * k + 5
    · rw [if_pos h1, if_pos h1]
    · rw [if_neg h1, if_neg h1]
      by_cases h2 : 4 + 5 * k + 5 ≤ j ∧ j < 4 + 5 * (cnt + 1)
      · rw [if_pos h2, if_pos (by omega)]
      · rw [if_neg h2, if_neg (by omega)]
def pRight (N : Nat → Int32) (y k v : Int32) : Prop := ((nn (N 1) : Int) ≤ y.toInt ∧ y.toInt ≤ 9999) ∧ (0 ≤ k.toInt ∧ k.toInt ≤ 2) ∧ (if k = Int32.ofNat 2 then 0 ≤ v.toInt ∧ v.toInt ≤ 1000 else 1 ≤ v.toInt ∧ v.toInt ≤ 1000000)
def pMade (M : Nat → Int32) (a b c d e : Int32) : Nat → Int32 := va_up (va_up (va_up (va_up (va_up M 0 a) 1 b) 2 c) 3 d) 4 e
section TW17
variable {Γ : Nat → Option Nat} {m n : Nat} {I : Nat → Int32} {A : Nat → Nat → Int32} {S : Nat → Int64} {h : xH} {d : Nat}
theorem t_plan_p250 {N : Nat → Int32} {k cnt : Nat} (hk : k ≤ cnt) (hc : cnt < 12) (hn : N 3 = Int32.ofNat cnt) : ∀ (r w fu : Nat), w + r = 5 → r < fu →
    fX3_plan_p250 fu m (Int32.ofNat k) (Int32.ofNat w) Γ (tw m I (va_up A 1 (pPl (pMv N (4 + 5 * k) (4 + 5 * cnt)) (A 10) k w)) S h) n = some (.inl (Int32.ofNat k), tw m I (va_up A 1 (pIns N (A 10) k cnt)) S h, 0, 0) := by
  intro r
  induction r with
  | zero =>
    intro w fu hw hf
    obtain ⟨fu, rfl⟩ : ∃ g, fu = g + 1 := ⟨fu - 1, by omega⟩
    have hw' : w = 5 := by omega
    subst hw'
    have c1 : Int32.ofNat 5 ≤ Int32.ofNat 5 := by decide
    rw [fX3_plan_p250]
    simp (maxDischargeDepth := 9) only [xbind, xlet, xpure, tw_sel, tg_0, tg_4, tg_9, tg_12, tg_13, tg_14, tg_15, tg_16, tg_17, tg_18, tg_19, tg_20, tg_21, tg_24, tr_1, tr_2, tr_3, tr_5, tr_6, tr_7, tr_8, tr_10, tr_11, tr_22, tr_23, tp_0, tp_4, tp_9, tp_12, tp_13, tp_14, tp_15, tp_16, tp_17, tp_18, tp_19, tp_20, tp_21, tp_24, va_up_self, va_up_ne, va_uu, i_ofNat, i_add, i_mul, Nat.add_zero, Nat.zero_add, reduceIte, if_true, if_false, Nat.reduceEqDiff, ne_eq, not_false_eq_true, Nat.reduceEqDiff, not_true_eq_false, c1, tl_1 (show 3 < 592 by omega), ts_1 (show 3 < 592 by omega), pIns_of hn hk]
  | succ r ih =>
    intro w fu hw hf
    obtain ⟨fu, rfl⟩ : ∃ g, fu = g + 1 := ⟨fu - 1, by omega⟩
    have c1 : ¬ Int32.ofNat 5 ≤ Int32.ofNat w := by rw [i_le (by omega) (by omega)]; omega
    have e := ih (w + 1) fu (by omega) (by omega)
    rw [fX3_plan_p250]
    simp (maxDischargeDepth := 9) only [xbind, xlet, xpure, tw_sel, tg_0, tg_4, tg_9, tg_12, tg_13, tg_14, tg_15, tg_16, tg_17, tg_18, tg_19, tg_20, tg_21, tg_24, tr_1, tr_2, tr_3, tr_5, tr_6, tr_7, tr_8, tr_10, tr_11, tr_22, tr_23, tp_0, tp_4, tp_9, tp_12, tp_13, tp_14, tp_15, tp_16, tp_17, tp_18, tp_19, tp_20, tp_21, tp_24, va_up_self, va_up_ne, va_uu, i_ofNat, i_add, i_mul, Nat.add_zero, Nat.zero_add, reduceIte, if_true, if_false, Nat.reduceEqDiff, ne_eq, not_false_eq_true, Nat.reduceEqDiff, not_true_eq_false, c1, tl_10 (show w < 5 by omega), ts_1 (show 4 + 5 * k + w < 592 by omega), pPl_step, e]
theorem t_plan_p214 {N : Nat → Int32} {k cnt : Nat} (hk : k ≤ cnt) (hc : cnt < 12) : ∀ (r i fu : Nat), i = 4 + 5 * k + r → i ≤ 4 + 5 * cnt → r < fu →
    fX3_plan_p214 fu m (Int32.ofNat k) (Int32.ofNat (i - 1)) Γ (tw m I (va_up A 1 (pMv N i (4 + 5 * cnt))) S h) n = fX3_plan_p250 xFU m (Int32.ofNat k) (Int32.ofNat 0) Γ (tw m I (va_up A 1 (pMv N (4 + 5 * k) (4 + 5 * cnt))) S h) n := by
  intro r
  induction r with
  | zero =>
    intro i fu hi he hf
    obtain ⟨fu, rfl⟩ : ∃ g, fu = g + 1 := ⟨fu - 1, by omega⟩
    have c1 : Int32.ofNat (i - 1) < Int32.ofNat (4 + 5 * k) := by rw [i_lt (by omega) (by omega)]; omega
    rw [fX3_plan_p214]
    rw [Nat.add_zero] at hi
    simp (maxDischargeDepth := 9) only [xbind, xlet, xpure, tw_sel, tg_0, tg_4, tg_9, tg_12, tg_13, tg_14, tg_15, tg_16, tg_17, tg_18, tg_19, tg_20, tg_21, tg_24, tr_1, tr_2, tr_3, tr_5, tr_6, tr_7, tr_8, tr_10, tr_11, tr_22, tr_23, tp_0, tp_4, tp_9, tp_12, tp_13, tp_14, tp_15, tp_16, tp_17, tp_18, tp_19, tp_20, tp_21, tp_24, va_up_self, va_up_ne, va_uu, i_ofNat, i_add, i_mul, Nat.add_zero, Nat.zero_add, reduceIte, if_true, if_false, Nat.reduceEqDiff, ne_eq, not_false_eq_true, Nat.reduceEqDiff, not_true_eq_false, c1]
    rw [hi]
  | succ r ih =>
    intro i fu hi he hf
    obtain ⟨fu, rfl⟩ : ∃ g, fu = g + 1 := ⟨fu - 1, by omega⟩
    obtain ⟨i, rfl⟩ : ∃ g, i = g + 1 := ⟨i - 1, by omega⟩
    have c1 : ¬ Int32.ofNat i < Int32.ofNat (4 + 5 * k) := by rw [i_lt (by omega) (by omega)]; omega
    have e := ih i fu (by omega) (by omega) (by omega)
    have m1 : Int32.ofNat i + -Int32.ofNat 1 = Int32.ofNat (i - 1) := i_addneg (by omega)
    have hst := pMv_step (N := N) (i := i) (e := 4 + 5 * cnt) (by omega)
    rw [Nat.add_sub_cancel, fX3_plan_p214]
    simp (maxDischargeDepth := 9) only [xbind, xlet, xpure, tw_sel, tg_0, tg_4, tg_9, tg_12, tg_13, tg_14, tg_15, tg_16, tg_17, tg_18, tg_19, tg_20, tg_21, tg_24, tr_1, tr_2, tr_3, tr_5, tr_6, tr_7, tr_8, tr_10, tr_11, tr_22, tr_23, tp_0, tp_4, tp_9, tp_12, tp_13, tp_14, tp_15, tp_16, tp_17, tp_18, tp_19, tp_20, tp_21, tp_24, va_up_self, va_up_ne, va_uu, i_ofNat, i_add, i_mul, Nat.add_zero, Nat.zero_add, reduceIte, if_true, if_false, Nat.reduceEqDiff, ne_eq, not_false_eq_true, Nat.reduceEqDiff, not_true_eq_false, c1, tl_1 (show i < 592 by omega), ts_1 (show i + 5 < 592 by omega), hst, m1, e]
    cases fX3_plan_p250 xFU m (Int32.ofNat k) (Int32.ofNat 0) Γ (tw m I (va_up A 1 (pMv N (4 + 5 * k) (4 + 5 * cnt))) S h) n <;> rfl
theorem t_plan_p200 {k cnt : Nat} (hk : k ≤ cnt) (hc : cnt < 12) (hn : A 1 3 = Int32.ofNat cnt) : fX3_plan_p200 m (Int32.ofNat k) Γ (tw m I A S h) n = some (.inl (Int32.ofNat k), tw m I (va_up A 1 (pIns (A 1) (A 10) k cnt)) S h, 0, 0) := by
  have e1 := t_plan_p214 (Γ := Γ) (n := n) (m := m) (I := I) (A := A) (S := S) (h := h) (N := A 1) hk hc (4 + 5 * cnt - (4 + 5 * k)) (4 + 5 * cnt) xFU (by omega) (by omega) (by unfold xFU; omega)
  have e2 := t_plan_p250 (Γ := Γ) (n := n) (m := m) (I := I) (A := A) (S := S) (h := h) (N := A 1) hk hc hn 5 0 xFU (by omega) (by unfold xFU; omega)
  rw [pMv_e, va_id] at e1
  rw [pPl_0] at e2
  rw [e2] at e1
  have m1 : Int32.ofNat (4 + 5 * cnt) - Int32.ofNat 1 = Int32.ofNat (4 + 5 * cnt - 1) := i_sub (by omega)
  simp (maxDischargeDepth := 9) only [fX3_plan_p200, xbind, xlet, xpure, tw_sel, tg_0, tg_4, tg_9, tg_12, tg_13, tg_14, tg_15, tg_16, tg_17, tg_18, tg_19, tg_20, tg_21, tg_24, tr_1, tr_2, tr_3, tr_5, tr_6, tr_7, tr_8, tr_10, tr_11, tr_22, tr_23, tp_0, tp_4, tp_9, tp_12, tp_13, tp_14, tp_15, tp_16, tp_17, tp_18, tp_19, tp_20, tp_21, tp_24, va_up_self, va_up_ne, va_uu, i_ofNat, i_add, i_mul, Nat.add_zero, Nat.zero_add, reduceIte, if_true, if_false, Nat.reduceEqDiff, ne_eq, not_false_eq_true, Nat.reduceEqDiff, not_true_eq_false, tl_1 (show 3 < 592 by omega), hn, m1, e1]
theorem pPos_le (N M : Nat → Int32) : ∀ (r k : Nat), k ≤ pPos N M k r ∧ pPos N M k r ≤ k + r := by
  intro r
  induction r with
  | zero => intro k; exact ⟨Nat.le_refl k, by unfold pPos; omega⟩
  | succ r ih =>
    intro k
    unfold pPos
    have := ih (k + 1)
    split
    · omega
    · omega
theorem t_plan_p174 {cnt : Nat} (hc : cnt < 12) (hn : A 1 3 = Int32.ofNat cnt) : ∀ (r k fu : Nat), k + r = cnt → r < fu → fX3_plan_p174 fu m (Int32.ofNat k) Γ (tw m I A S h) n = some (.inl (Int32.ofNat (pPos (A 1) (A 10) k r)), tw m I (va_up A 1 (pIns (A 1) (A 10) (pPos (A 1) (A 10) k r) cnt)) S h, 0, 0) := by
  intro r
  induction r with
  | zero =>
    intro k fu hk hf
    obtain ⟨fu, rfl⟩ : ∃ g, fu = g + 1 := ⟨fu - 1, by omega⟩
    have c1 : Int32.ofNat cnt ≤ Int32.ofNat k := by rw [i_le (by omega) (by omega)]; omega
    have e := t_plan_p200 (Γ := Γ) (n := n) (m := m) (I := I) (A := A) (S := S) (h := h) (k := k) (show k ≤ cnt by omega) hc hn
    rw [fX3_plan_p174]
    simp (maxDischargeDepth := 9) only [xbind, xlet, xpure, tw_sel, tg_0, tg_4, tg_9, tg_12, tg_13, tg_14, tg_15, tg_16, tg_17, tg_18, tg_19, tg_20, tg_21, tg_24, tr_1, tr_2, tr_3, tr_5, tr_6, tr_7, tr_8, tr_10, tr_11, tr_22, tr_23, tp_0, tp_4, tp_9, tp_12, tp_13, tp_14, tp_15, tp_16, tp_17, tp_18, tp_19, tp_20, tp_21, tp_24, va_up_self, va_up_ne, va_uu, i_ofNat, i_add, i_mul, Nat.add_zero, Nat.zero_add, reduceIte, if_true, if_false, Nat.reduceEqDiff, ne_eq, not_false_eq_true, Nat.reduceEqDiff, not_true_eq_false, tl_1 (show 3 < 592 by omega), hn, c1, e, pPos]
  | succ r ih =>
    intro k fu hk hf
    obtain ⟨fu, rfl⟩ : ∃ g, fu = g + 1 := ⟨fu - 1, by omega⟩
    have c1 : ¬ Int32.ofNat cnt ≤ Int32.ofNat k := by rw [i_le (by omega) (by omega)]; omega
    have e := t_plan_p200 (Γ := Γ) (n := n) (m := m) (I := I) (A := A) (S := S) (h := h) (k := k) (show k ≤ cnt by omega) hc hn
    have e1 := t_isAhead (Γ := Γ) (n := n) (m := m) (I := I) (A := A) (S := S) (h := h) (show k < 12 by omega)
    have e2 := ih (k + 1) fu (by omega) (by omega)
    rw [fX3_plan_p174]
    unfold pPos
    cases hb : pAh (A 1) (A 10) k 0 4
    · rw [hb, b2i_f] at e1
      simp (maxDischargeDepth := 9) only [xbind, xlet, xpure, tw_sel, tg_0, tg_4, tg_9, tg_12, tg_13, tg_14, tg_15, tg_16, tg_17, tg_18, tg_19, tg_20, tg_21, tg_24, tr_1, tr_2, tr_3, tr_5, tr_6, tr_7, tr_8, tr_10, tr_11, tr_22, tr_23, tp_0, tp_4, tp_9, tp_12, tp_13, tp_14, tp_15, tp_16, tp_17, tp_18, tp_19, tp_20, tp_21, tp_24, va_up_self, va_up_ne, va_uu, i_ofNat, i_add, i_mul, Nat.add_zero, Nat.zero_add, reduceIte, if_true, if_false, Nat.reduceEqDiff, ne_eq, not_false_eq_true, Nat.reduceEqDiff, not_true_eq_false, tl_1 (show 3 < 592 by omega), hn, c1, e1, e, Bool.false_eq_true]
    · rw [hb, b2i_t] at e1
      simp (maxDischargeDepth := 9) only [xbind, xlet, xpure, tw_sel, tg_0, tg_4, tg_9, tg_12, tg_13, tg_14, tg_15, tg_16, tg_17, tg_18, tg_19, tg_20, tg_21, tg_24, tr_1, tr_2, tr_3, tr_5, tr_6, tr_7, tr_8, tr_10, tr_11, tr_22, tr_23, tp_0, tp_4, tp_9, tp_12, tp_13, tp_14, tp_15, tp_16, tp_17, tp_18, tp_19, tp_20, tp_21, tp_24, va_up_self, va_up_ne, va_uu, i_ofNat, i_add, i_mul, Nat.add_zero, Nat.zero_add, reduceIte, if_true, if_false, Nat.reduceEqDiff, ne_eq, not_false_eq_true, Nat.reduceEqDiff, not_true_eq_false, tl_1 (show 3 < 592 by omega), hn, c1, e1, i_10, e2]
theorem t_plan_right (ok : okN (A 1)) {y k v : Int32} {p q : Int32} (hr : pRight (A 1) y k v) : fX3_plan m y k p q v Γ (tw m I A S h) n = fX3_plan_p74 m y k p q v (Int32.ofNat 1) Γ (tw m (va_up I 0 (Int32.ofNat 0)) A S h) n := by
  have hn := ok.2.2.1
  have h9 := ok.2.2.2.1
  unfold nN at hn
  obtain ⟨r1, r2, r3⟩ := hr
  have e1 := t_in1 (Γ := Γ) (h := tw m (va_up I 0 (Int32.ofNat 0)) A S h) (n := n) (a := y.toInt64) (b := (A 1 1).toInt64) (c := 9999) (by rw [hn, Int32.toInt_toInt64, Int32.toInt_toInt64, i_toInt (by omega)]; exact r1.1) (by rw [Int32.toInt_toInt64]; exact r1.2)
  have e2 := t_in1 (Γ := Γ) (h := tw m (va_up I 0 (Int32.ofNat 0)) A S h) (n := n) (a := k.toInt64) (b := 0) (c := 2) (by rw [Int32.toInt_toInt64]; exact r2.1) (by rw [Int32.toInt_toInt64]; exact r2.2)
  by_cases c : k = Int32.ofNat 2
  · rw [if_pos c] at r3
    have e3 := t_in1 (Γ := Γ) (h := tw m (va_up I 0 (Int32.ofNat 0)) A S h) (n := n) (a := v.toInt64) (b := 0) (c := 1000) (by rw [Int32.toInt_toInt64]; exact r3.1) (by rw [Int32.toInt_toInt64]; exact r3.2)
    have c' := eq_true c
    simp (maxDischargeDepth := 9) only [fX3_plan, xbind, xlet, xpure, tw_sel, tg_0, tg_4, tg_9, tg_12, tg_13, tg_14, tg_15, tg_16, tg_17, tg_18, tg_19, tg_20, tg_21, tg_24, tr_1, tr_2, tr_3, tr_5, tr_6, tr_7, tr_8, tr_10, tr_11, tr_22, tr_23, tp_0, tp_4, tp_9, tp_12, tp_13, tp_14, tp_15, tp_16, tp_17, tp_18, tp_19, tp_20, tp_21, tp_24, va_up_self, va_up_ne, va_uu, i_ofNat, i_add, i_mul, Nat.add_zero, Nat.zero_add, reduceIte, if_true, if_false, Nat.reduceEqDiff, ne_eq, not_false_eq_true, Nat.reduceEqDiff, not_true_eq_false, tl_1 (show 1 < 592 by omega), e1, e2, e3, i_10, c', fX3_plan_p69]
    cases fX3_plan_p74 m y k p q v (Int32.ofNat 1) Γ (tw m (va_up I 0 (Int32.ofNat 0)) A S h) n <;> rfl
  · rw [if_neg c] at r3
    have e3 := t_in1 (Γ := Γ) (h := tw m (va_up I 0 (Int32.ofNat 0)) A S h) (n := n) (a := v.toInt64) (b := 1) (c := 1000000) (by rw [Int32.toInt_toInt64]; exact r3.1) (by rw [Int32.toInt_toInt64]; exact r3.2)
    simp (maxDischargeDepth := 9) only [fX3_plan, xbind, xlet, xpure, tw_sel, tg_0, tg_4, tg_9, tg_12, tg_13, tg_14, tg_15, tg_16, tg_17, tg_18, tg_19, tg_20, tg_21, tg_24, tr_1, tr_2, tr_3, tr_5, tr_6, tr_7, tr_8, tr_10, tr_11, tr_22, tr_23, tp_0, tp_4, tp_9, tp_12, tp_13, tp_14, tp_15, tp_16, tp_17, tp_18, tp_19, tp_20, tp_21, tp_24, va_up_self, va_up_ne, va_uu, i_ofNat, i_add, i_mul, Nat.add_zero, Nat.zero_add, reduceIte, if_true, if_false, Nat.reduceEqDiff, ne_eq, not_false_eq_true, Nat.reduceEqDiff, not_true_eq_false, tl_1 (show 1 < 592 by omega), e1, e2, e3, i_10, c, fX3_plan_p69]
    cases fX3_plan_p74 m y k p q v (Int32.ofNat 1) Γ (tw m (va_up I 0 (Int32.ofNat 0)) A S h) n <;> rfl
theorem t_plan_wrong (ok : okN (A 1)) {y k v : Int32} {p q : Int32} (hr : ¬ pRight (A 1) y k v) : fX3_plan m y k p q v Γ (tw m I A S h) n = fX3_plan_p74 m y k p q v (Int32.ofNat 0) Γ (tw m (va_up I 0 (Int32.ofNat 0)) A S h) n := by
  have hn := ok.2.2.1
  have h9 := ok.2.2.2.1
  unfold nN at hn
  by_cases r1 : (nn (A 1 1) : Int) ≤ y.toInt ∧ y.toInt ≤ 9999
  · have e1 := t_in1 (Γ := Γ) (h := tw m (va_up I 0 (Int32.ofNat 0)) A S h) (n := n) (a := y.toInt64) (b := (A 1 1).toInt64) (c := 9999) (by rw [hn, Int32.toInt_toInt64, Int32.toInt_toInt64, i_toInt (by omega)]; exact r1.1) (by rw [Int32.toInt_toInt64]; exact r1.2)
    by_cases r2 : 0 ≤ k.toInt ∧ k.toInt ≤ 2
    · have e2 := t_in1 (Γ := Γ) (h := tw m (va_up I 0 (Int32.ofNat 0)) A S h) (n := n) (a := k.toInt64) (b := 0) (c := 2) (by rw [Int32.toInt_toInt64]; exact r2.1) (by rw [Int32.toInt_toInt64]; exact r2.2)
      by_cases c : k = Int32.ofNat 2
      · have e3 := t_in0 (Γ := Γ) (h := tw m (va_up I 0 (Int32.ofNat 0)) A S h) (n := n) (a := v.toInt64) (b := 0) (c := 1000) (by
          rw [Int32.toInt_toInt64]
          intro z
          exact hr ⟨r1, r2, by rw [if_pos c]; exact z⟩)
        have c' := eq_true c
        simp (maxDischargeDepth := 9) only [fX3_plan, xbind, xlet, xpure, tw_sel, tg_0, tg_4, tg_9, tg_12, tg_13, tg_14, tg_15, tg_16, tg_17, tg_18, tg_19, tg_20, tg_21, tg_24, tr_1, tr_2, tr_3, tr_5, tr_6, tr_7, tr_8, tr_10, tr_11, tr_22, tr_23, tp_0, tp_4, tp_9, tp_12, tp_13, tp_14, tp_15, tp_16, tp_17, tp_18, tp_19, tp_20, tp_21, tp_24, va_up_self, va_up_ne, va_uu, i_ofNat, i_add, i_mul, Nat.add_zero, Nat.zero_add, reduceIte, if_true, if_false, Nat.reduceEqDiff, ne_eq, not_false_eq_true, Nat.reduceEqDiff, not_true_eq_false, tl_1 (show 1 < 592 by omega), e1, e2, e3, i_10, c', fX3_plan_p73]
        cases fX3_plan_p74 m y k p q v (Int32.ofNat 0) Γ (tw m (va_up I 0 (Int32.ofNat 0)) A S h) n <;> rfl
      · have e3 := t_in0 (Γ := Γ) (h := tw m (va_up I 0 (Int32.ofNat 0)) A S h) (n := n) (a := v.toInt64) (b := 1) (c := 1000000) (by
          rw [Int32.toInt_toInt64]
          intro z
          exact hr ⟨r1, r2, by rw [if_neg c]; exact z⟩)
        simp (maxDischargeDepth := 9) only [fX3_plan, xbind, xlet, xpure, tw_sel, tg_0, tg_4, tg_9, tg_12, tg_13, tg_14, tg_15, tg_16, tg_17, tg_18, tg_19, tg_20, tg_21, tg_24, tr_1, tr_2, tr_3, tr_5, tr_6, tr_7, tr_8, tr_10, tr_11, tr_22, tr_23, tp_0, tp_4, tp_9, tp_12, tp_13, tp_14, tp_15, tp_16, tp_17, tp_18, tp_19, tp_20, tp_21, tp_24, va_up_self, va_up_ne, va_uu, i_ofNat, i_add, i_mul, Nat.add_zero, Nat.zero_add, reduceIte, if_true, if_false, Nat.reduceEqDiff, ne_eq, not_false_eq_true, Nat.reduceEqDiff, not_true_eq_false, tl_1 (show 1 < 592 by omega), e1, e2, e3, i_10, c, fX3_plan_p73]
        cases fX3_plan_p74 m y k p q v (Int32.ofNat 0) Γ (tw m (va_up I 0 (Int32.ofNat 0)) A S h) n <;> rfl
    · have e2 := t_in0 (Γ := Γ) (h := tw m (va_up I 0 (Int32.ofNat 0)) A S h) (n := n) (a := k.toInt64) (b := 0) (c := 2) (by rw [Int32.toInt_toInt64]; exact r2)
      simp (maxDischargeDepth := 9) only [fX3_plan, xbind, xlet, xpure, tw_sel, tg_0, tg_4, tg_9, tg_12, tg_13, tg_14, tg_15, tg_16, tg_17, tg_18, tg_19, tg_20, tg_21, tg_24, tr_1, tr_2, tr_3, tr_5, tr_6, tr_7, tr_8, tr_10, tr_11, tr_22, tr_23, tp_0, tp_4, tp_9, tp_12, tp_13, tp_14, tp_15, tp_16, tp_17, tp_18, tp_19, tp_20, tp_21, tp_24, va_up_self, va_up_ne, va_uu, i_ofNat, i_add, i_mul, Nat.add_zero, Nat.zero_add, reduceIte, if_true, if_false, Nat.reduceEqDiff, ne_eq, not_false_eq_true, Nat.reduceEqDiff, not_true_eq_false, tl_1 (show 1 < 592 by omega), e1, e2, i_10, fX3_plan_p73]
      cases fX3_plan_p74 m y k p q v (Int32.ofNat 0) Γ (tw m (va_up I 0 (Int32.ofNat 0)) A S h) n <;> rfl
  · have e1 := t_in0 (Γ := Γ) (h := tw m (va_up I 0 (Int32.ofNat 0)) A S h) (n := n) (a := y.toInt64) (b := (A 1 1).toInt64) (c := 9999) (by rw [hn, Int32.toInt_toInt64, Int32.toInt_toInt64, i_toInt (by omega)]; exact r1)
    simp (maxDischargeDepth := 9) only [fX3_plan, xbind, xlet, xpure, tw_sel, tg_0, tg_4, tg_9, tg_12, tg_13, tg_14, tg_15, tg_16, tg_17, tg_18, tg_19, tg_20, tg_21, tg_24, tr_1, tr_2, tr_3, tr_5, tr_6, tr_7, tr_8, tr_10, tr_11, tr_22, tr_23, tp_0, tp_4, tp_9, tp_12, tp_13, tp_14, tp_15, tp_16, tp_17, tp_18, tp_19, tp_20, tp_21, tp_24, va_up_self, va_up_ne, va_uu, i_ofNat, i_add, i_mul, Nat.add_zero, Nat.zero_add, reduceIte, if_true, if_false, Nat.reduceEqDiff, ne_eq, not_false_eq_true, Nat.reduceEqDiff, not_true_eq_false, tl_1 (show 1 < 592 by omega), e1, i_10, fX3_plan_p73]
    cases fX3_plan_p74 m y k p q v (Int32.ofNat 0) Γ (tw m (va_up I 0 (Int32.ofNat 0)) A S h) n <;> rfl
theorem t_plan0 (ok : okN (A 1)) {y k v p q : Int32} (hp : ¬ vA (A 1) p q) : fX3_plan m y k p q v Γ (tw m I A S h) n = some (.inl (Int32.ofNat 0), tw m (va_up I 0 (Int32.ofNat 1)) A S h, 0, 0) := by
  have e0 := t_noAge0 (Γ := Γ) (n := n) (m := m) (I := va_up I 0 (Int32.ofNat 0)) (S := S) (h := h) ok hp
  by_cases hr : pRight (A 1) y k v
  · rw [t_plan_right ok hr]
    simp (maxDischargeDepth := 9) only [fX3_plan_p74, xbind, xlet, xpure, tw_sel, tg_0, tg_4, tg_9, tg_12, tg_13, tg_14, tg_15, tg_16, tg_17, tg_18, tg_19, tg_20, tg_21, tg_24, tr_1, tr_2, tr_3, tr_5, tr_6, tr_7, tr_8, tr_10, tr_11, tr_22, tr_23, tp_0, tp_4, tp_9, tp_12, tp_13, tp_14, tp_15, tp_16, tp_17, tp_18, tp_19, tp_20, tp_21, tp_24, va_up_self, va_up_ne, va_uu, i_ofNat, i_add, i_mul, Nat.add_zero, Nat.zero_add, reduceIte, if_true, if_false, Nat.reduceEqDiff, ne_eq, not_false_eq_true, Nat.reduceEqDiff, not_true_eq_false, e0, i_10]
  · rw [t_plan_wrong ok hr]
    simp (maxDischargeDepth := 9) only [fX3_plan_p74, xbind, xlet, xpure, tw_sel, tg_0, tg_4, tg_9, tg_12, tg_13, tg_14, tg_15, tg_16, tg_17, tg_18, tg_19, tg_20, tg_21, tg_24, tr_1, tr_2, tr_3, tr_5, tr_6, tr_7, tr_8, tr_10, tr_11, tr_22, tr_23, tp_0, tp_4, tp_9, tp_12, tp_13, tp_14, tp_15, tp_16, tp_17, tp_18, tp_19, tp_20, tp_21, tp_24, va_up_self, va_up_ne, va_uu, i_ofNat, i_add, i_mul, Nat.add_zero, Nat.zero_add, reduceIte, if_true, if_false, Nat.reduceEqDiff, ne_eq, not_false_eq_true, Nat.reduceEqDiff, not_true_eq_false, e0, i_10]
theorem t_plan2 (ok : okN (A 1)) {s x : Nat} (hs : s < nn (A 1 0)) (hx : x ≤ nn (A 1 (zI s 1))) {y k v : Int32} (hr : ¬ pRight (A 1) y k v) : fX3_plan m y k (Int32.ofNat s) (Int32.ofNat x) v Γ (tw m I A S h) n = some (.inl (Int32.ofNat 0), tw m (va_up I 0 (Int32.ofNat 2)) A S h, 0, 0) := by
  have e0 := t_noAge1 (Γ := Γ) (n := n) (m := m) (I := va_up I 0 (Int32.ofNat 0)) (S := S) (h := h) ok hs hx
  rw [t_plan_wrong ok hr]
  simp (maxDischargeDepth := 9) only [fX3_plan_p74, fX3_plan_p97, xbind, xlet, xpure, tw_sel, tg_0, tg_4, tg_9, tg_12, tg_13, tg_14, tg_15, tg_16, tg_17, tg_18, tg_19, tg_20, tg_21, tg_24, tr_1, tr_2, tr_3, tr_5, tr_6, tr_7, tr_8, tr_10, tr_11, tr_22, tr_23, tp_0, tp_4, tp_9, tp_12, tp_13, tp_14, tp_15, tp_16, tp_17, tp_18, tp_19, tp_20, tp_21, tp_24, va_up_self, va_up_ne, va_uu, i_ofNat, i_add, i_mul, Nat.add_zero, Nat.zero_add, reduceIte, if_true, if_false, Nat.reduceEqDiff, ne_eq, not_false_eq_true, Nat.reduceEqDiff, not_true_eq_false, e0, i_10, t_throws1]
theorem t_plan3 (ok : okN (A 1)) {s x : Nat} (hs : s < nn (A 1 0)) (hx : x ≤ nn (A 1 (zI s 1))) {y k v : Int32} (hr : pRight (A 1) y k v) (h12 : nn (A 1 3) = 12) : fX3_plan m y k (Int32.ofNat s) (Int32.ofNat x) v Γ (tw m I A S h) n = some (.inl (Int32.ofNat 0), tw m (va_up I 0 (Int32.ofNat 3)) A S h, 0, 0) := by
  have e0 := t_noAge1 (Γ := Γ) (n := n) (m := m) (I := va_up I 0 (Int32.ofNat 0)) (S := S) (h := h) ok hs hx
  have h3 := ok.2.2.2.2.2.2.1
  unfold nN at h3
  rw [h12] at h3
  rw [t_plan_right ok hr]
  simp (maxDischargeDepth := 9) only [fX3_plan_p74, fX3_plan_p97, fX3_plan_p121, xbind, xlet, xpure, tw_sel, tg_0, tg_4, tg_9, tg_12, tg_13, tg_14, tg_15, tg_16, tg_17, tg_18, tg_19, tg_20, tg_21, tg_24, tr_1, tr_2, tr_3, tr_5, tr_6, tr_7, tr_8, tr_10, tr_11, tr_22, tr_23, tp_0, tp_4, tp_9, tp_12, tp_13, tp_14, tp_15, tp_16, tp_17, tp_18, tp_19, tp_20, tp_21, tp_24, va_up_self, va_up_ne, va_uu, i_ofNat, i_add, i_mul, Nat.add_zero, Nat.zero_add, reduceIte, if_true, if_false, Nat.reduceEqDiff, ne_eq, not_false_eq_true, Nat.reduceEqDiff, not_true_eq_false, e0, i_10, t_throws0, tl_1 (show 3 < 592 by omega), h3, t_throws1]
theorem t_plan1 (ok : okN (A 1)) (hd : I 4 = Int32.ofNat d) (hd8 : d ≤ 8) {s x : Nat} (hs : s < nn (A 1 0)) (hx : x ≤ nn (A 1 (zI s 1))) {y k v : Int32} (hr : pRight (A 1) y k v) {cnt : Nat} (hc : nn (A 1 3) = cnt) (h12 : cnt < 12) {M : Nat → Int32} (hM : M = pMade (A 10) y k (Int32.ofNat s) (Int32.ofNat x) v) : fX3_plan m y k (Int32.ofNat s) (Int32.ofNat x) v Γ (tw m I A S h) n = some (.inl (Int32.ofNat (pPos (A 1) M 0 cnt)), tw m (kI I d) (va_up (va_up (va_up A 3 (pPast (A 3) (A 1) d)) 10 M) 1 (pIns (A 1) M (pPos (A 1) M 0 cnt) cnt)) S h, 0, 0) := by
  have e0 := t_noAge1 (Γ := Γ) (n := n) (m := m) (I := va_up I 0 (Int32.ofNat 0)) (S := S) (h := h) ok hs hx
  have h3 := ok.2.2.2.2.2.2.1
  unfold nN at h3
  rw [hc] at h3
  have c1 : ¬ (Int32.ofNat cnt = Int32.ofNat 12) := by rw [i_eq (by omega) (by omega)]; omega
  have e3 := t_keeps0 (Γ := Γ) (n := n) (m := m) (I := I) (A := A) (S := S) (h := h) hd hd8
  have e4 := t_plan_p174 (Γ := Γ) (n := n) (m := m) (I := kI I d) (A := va_up (va_up A 3 (pPast (A 3) (A 1) d)) 10 M) (S := S) (h := h) h12 (by rw [va_up_ne _ _ (by omega), va_up_ne _ _ (by omega)]; exact h3) cnt 0 xFU (by omega) (by unfold xFU; omega)
  simp (maxDischargeDepth := 9) only [xbind, xlet, xpure, tw_sel, tg_0, tg_4, tg_9, tg_12, tg_13, tg_14, tg_15, tg_16, tg_17, tg_18, tg_19, tg_20, tg_21, tg_24, tr_1, tr_2, tr_3, tr_5, tr_6, tr_7, tr_8, tr_10, tr_11, tr_22, tr_23, tp_0, tp_4, tp_9, tp_12, tp_13, tp_14, tp_15, tp_16, tp_17, tp_18, tp_19, tp_20, tp_21, tp_24, va_up_self, va_up_ne, va_uu, i_ofNat, i_add, i_mul, Nat.add_zero, Nat.zero_add, reduceIte, if_true, if_false, Nat.reduceEqDiff, ne_eq, not_false_eq_true, Nat.reduceEqDiff, not_true_eq_false] at e4
  unfold pMade at hM
  rw [t_plan_right ok hr]
  simp (maxDischargeDepth := 9) only [fX3_plan_p74, fX3_plan_p97, fX3_plan_p121, xbind, xlet, xpure, tw_sel, tg_0, tg_4, tg_9, tg_12, tg_13, tg_14, tg_15, tg_16, tg_17, tg_18, tg_19, tg_20, tg_21, tg_24, tr_1, tr_2, tr_3, tr_5, tr_6, tr_7, tr_8, tr_10, tr_11, tr_22, tr_23, tp_0, tp_4, tp_9, tp_12, tp_13, tp_14, tp_15, tp_16, tp_17, tp_18, tp_19, tp_20, tp_21, tp_24, va_up_self, va_up_ne, va_uu, i_ofNat, i_add, i_mul, Nat.add_zero, Nat.zero_add, reduceIte, if_true, if_false, Nat.reduceEqDiff, ne_eq, not_false_eq_true, Nat.reduceEqDiff, not_true_eq_false, e0, i_10, t_throws0, tl_1 (show 3 < 592 by omega), h3, c1, e3, ts_10 (show 0 < 5 by omega), ts_10 (show 1 < 5 by omega), ts_10 (show 2 < 5 by omega), ts_10 (show 3 < 5 by omega), ts_10 (show 4 < 5 by omega), ← hM, e4]
end TW17
