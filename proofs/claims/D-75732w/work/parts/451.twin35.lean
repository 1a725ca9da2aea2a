/-! part 451: the twin: begins -/
def pZero (N : Nat → Int32) (k : Nat) : Nat → Int32 := fun j => if j < k then Int32.ofNat 0 else N j
theorem pZero_step {N : Nat → Int32} {k : Nat} : va_up (pZero N k) k (Int32.ofNat 0) = pZero N (k + 1) := by
  funext j
  unfold va_up pZero
  by_cases h : j = k
  · rw [if_pos h, if_pos (by omega)]
  · rw [if_neg h]
    by_cases h2 : j < k
    · rw [if_pos h2, if_pos (by omega)]
    · rw [if_neg h2, if_neg (by omega)]
theorem pZero_0 {N : Nat → Int32} : pZero N 0 = N := by
  funext j
  unfold pZero
  rw [if_neg (by omega)]
section TW35
variable {Γ : Nat → Option Nat} {m n : Nat} {I : Nat → Int32} {A : Nat → Nat → Int32} {S : Nat → Int64} {h : xH} {s : Nat}
theorem t_begins_p2 : ∀ (r k fu : Nat), k + r = 592 → r < fu → fX3_begins_p2 fu m (Int32.ofNat k) Γ (tw m I (va_up A 1 (pZero (A 1) k)) S h) n = some (.inl (), tw m (va_up I 4 (Int32.ofNat 0)) (va_up A 1 (pZero (A 1) 592)) S h, 0, 0) := by
  intro r
  induction r with
  | zero =>
    intro k fu hk hf
    obtain ⟨fu, rfl⟩ : ∃ g, fu = g + 1 := ⟨fu - 1, by omega⟩
    have hk' : k = 592 := by omega
    subst hk'
    have c1 : Int32.ofNat 592 ≤ Int32.ofNat 592 := by decide
    rw [fX3_begins_p2]
    simp (maxDischargeDepth := 9) only [xbind, xlet, xpure, tw_sel, tg_0, tg_4, tg_9, tg_12, tg_13, tg_14, tg_15, tg_16, tg_17, tg_18, tg_19, tg_20, tg_21, tg_24, tr_1, tr_2, tr_3, tr_5, tr_6, tr_7, tr_8, tr_10, tr_11, tr_22, tr_23, tp_0, tp_4, tp_9, tp_12, tp_13, tp_14, tp_15, tp_16, tp_17, tp_18, tp_19, tp_20, tp_21, tp_24, va_up_self, va_up_ne, va_uu, i_ofNat, i_add, i_mul, Nat.add_zero, Nat.zero_add, reduceIte, if_true, if_false, Nat.reduceEqDiff, ne_eq, not_false_eq_true, Nat.reduceEqDiff, not_true_eq_false, c1]
  | succ r ih =>
    intro k fu hk hf
    obtain ⟨fu, rfl⟩ : ∃ g, fu = g + 1 := ⟨fu - 1, by omega⟩
    have c1 : ¬ Int32.ofNat 592 ≤ Int32.ofNat k := by rw [i_le (by omega) (by omega)]; omega
    have e := ih (k + 1) fu (by omega) (by omega)
    rw [fX3_begins_p2]
    simp (maxDischargeDepth := 9) only [xbind, xlet, xpure, tw_sel, tg_0, tg_4, tg_9, tg_12, tg_13, tg_14, tg_15, tg_16, tg_17, tg_18, tg_19, tg_20, tg_21, tg_24, tr_1, tr_2, tr_3, tr_5, tr_6, tr_7, tr_8, tr_10, tr_11, tr_22, tr_23, tp_0, tp_4, tp_9, tp_12, tp_13, tp_14, tp_15, tp_16, tp_17, tp_18, tp_19, tp_20, tp_21, tp_24, va_up_self, va_up_ne, va_uu, i_ofNat, i_add, i_mul, Nat.add_zero, Nat.zero_add, reduceIte, if_true, if_false, Nat.reduceEqDiff, ne_eq, not_false_eq_true, Nat.reduceEqDiff, not_true_eq_false, c1, ts_1 (show k < 592 by omega), pZero_step, e]
theorem t_begins : fX3_begins m Γ (tw m I A S h) n = some (.inl (), tw m (va_up I 4 (Int32.ofNat 0)) (va_up A 1 (pZero (A 1) 592)) S h, 0, 0) := by
  have e := t_begins_p2 (Γ := Γ) (n := n) (m := m) (I := I) (A := A) (S := S) (h := h) 592 0 xFU (by omega) (by unfold xFU; omega)
  rw [pZero_0, va_id] at e
  simp (maxDischargeDepth := 9) only [fX3_begins, xbind, xlet, xpure, tw_sel, tg_0, tg_4, tg_9, tg_12, tg_13, tg_14, tg_15, tg_16, tg_17, tg_18, tg_19, tg_20, tg_21, tg_24, tr_1, tr_2, tr_3, tr_5, tr_6, tr_7, tr_8, tr_10, tr_11, tr_22, tr_23, tp_0, tp_4, tp_9, tp_12, tp_13, tp_14, tp_15, tp_16, tp_17, tp_18, tp_19, tp_20, tp_21, tp_24, va_up_self, va_up_ne, va_uu, i_ofNat, i_add, i_mul, Nat.add_zero, Nat.zero_add, reduceIte, if_true, if_false, Nat.reduceEqDiff, ne_eq, not_false_eq_true, Nat.reduceEqDiff, not_true_eq_false, e]
end TW35
