/-! part 446: the twin: speciesNamed -/
/-- the number of the name that stands at W from x on, k letters -/
def pNm (W : Nat → Int32) : Nat → Nat → Int32 → Option Int32
  | _, 0, v => some v
  | x, k + 1, v => if 97 ≤ (W x).toInt ∧ (W x).toInt ≤ 122 then pNm W (x + 1) k (Int32.ofNat 27 * v + W x - Int32.ofNat 97 + Int32.ofNat 1) else none
def pSpN (W N : Nat → Int32) (t : Nat) : Option Nat := match pNm W 0 t (Int32.ofNat 0) with
  | none => none
  | some v => pNd N v 0 (nn (N 0))
section TW33
variable {Γ : Nat → Option Nat} {m n : Nat} {I : Nat → Int32} {A : Nat → Nat → Int32} {S : Nat → Int64} {h : xH} {s : Nat}
theorem t_speciesNamed_p33 (ok : okN (A 1)) {t : Nat} (ht : t ≤ 6) : ∀ (k x fu : Nat) (v : Int32), x + k = t → k < fu → fX3_speciesNamed_p33 fu m (Int32.ofNat t) v (Int32.ofNat x) Γ (tw m I A S h) n = some (.inl (o2i (match pNm (A 8) x k v with
  | none => none
  | some v => pNd (A 1) v 0 (nn (A 1 0)))), tw m I A S h, 0, 0) := by
  intro k
  induction k with
  | zero =>
    intro x fu v hx hf
    obtain ⟨fu, rfl⟩ : ∃ g, fu = g + 1 := ⟨fu - 1, by omega⟩
    have c1 : Int32.ofNat t ≤ Int32.ofNat x := by rw [i_le (by omega) (by omega)]; omega
    have e1 := t_named (Γ := Γ) (n := n) (m := m) (I := I) (S := S) (h := h) ok v
    rw [fX3_speciesNamed_p33]
    simp (maxDischargeDepth := 9) only [xbind, xlet, xpure, tw_sel, tg_0, tg_4, tg_9, tg_12, tg_13, tg_14, tg_15, tg_16, tg_17, tg_18, tg_19, tg_20, tg_21, tg_24, tr_1, tr_2, tr_3, tr_5, tr_6, tr_7, tr_8, tr_10, tr_11, tr_22, tr_23, tp_0, tp_4, tp_9, tp_12, tp_13, tp_14, tp_15, tp_16, tp_17, tp_18, tp_19, tp_20, tp_21, tp_24, va_up_self, va_up_ne, va_uu, i_ofNat, i_add, i_mul, Nat.add_zero, Nat.zero_add, reduceIte, if_true, if_false, Nat.reduceEqDiff, ne_eq, not_false_eq_true, Nat.reduceEqDiff, not_true_eq_false, c1, e1, pNm]
  | succ k ih =>
    intro x fu v hx hf
    obtain ⟨fu, rfl⟩ : ∃ g, fu = g + 1 := ⟨fu - 1, by omega⟩
    have c1 : ¬ (Int32.ofNat t ≤ Int32.ofNat x) := by rw [i_le (by omega) (by omega)]; omega
    have d1 : ¬ Int32.ofNat 1 = Int32.ofNat 0 := by decide
    rw [fX3_speciesNamed_p33, pNm]
    by_cases hc : 97 ≤ (A 8 x).toInt ∧ (A 8 x).toInt ≤ 122
    · have e1 := t_in1 (Γ := Γ) (h := tw m I A S h) (n := n) (a := (A 8 x).toInt64) (b := 97) (c := 122) (by rw [Int32.toInt_toInt64]; exact hc.1) (by rw [Int32.toInt_toInt64]; exact hc.2)
      have e2 := ih (x + 1) fu (Int32.ofNat 27 * v + A 8 x - Int32.ofNat 97 + Int32.ofNat 1) (by omega) (by omega)
      rw [if_pos hc]
      simp (maxDischargeDepth := 9) only [xbind, xlet, xpure, tw_sel, tg_0, tg_4, tg_9, tg_12, tg_13, tg_14, tg_15, tg_16, tg_17, tg_18, tg_19, tg_20, tg_21, tg_24, tr_1, tr_2, tr_3, tr_5, tr_6, tr_7, tr_8, tr_10, tr_11, tr_22, tr_23, tp_0, tp_4, tp_9, tp_12, tp_13, tp_14, tp_15, tp_16, tp_17, tp_18, tp_19, tp_20, tp_21, tp_24, va_up_self, va_up_ne, va_uu, i_ofNat, i_add, i_mul, Nat.add_zero, Nat.zero_add, reduceIte, if_true, if_false, Nat.reduceEqDiff, ne_eq, not_false_eq_true, Nat.reduceEqDiff, not_true_eq_false, c1, d1, tl_8 (show x < 900 by omega), e1, e2]
    · have e1 := t_in0 (Γ := Γ) (h := tw m I A S h) (n := n) (a := (A 8 x).toInt64) (b := 97) (c := 122) (by rw [Int32.toInt_toInt64]; exact hc)
      rw [if_neg hc]
      simp (maxDischargeDepth := 9) only [xbind, xlet, xpure, tw_sel, tg_0, tg_4, tg_9, tg_12, tg_13, tg_14, tg_15, tg_16, tg_17, tg_18, tg_19, tg_20, tg_21, tg_24, tr_1, tr_2, tr_3, tr_5, tr_6, tr_7, tr_8, tr_10, tr_11, tr_22, tr_23, tp_0, tp_4, tp_9, tp_12, tp_13, tp_14, tp_15, tp_16, tp_17, tp_18, tp_19, tp_20, tp_21, tp_24, va_up_self, va_up_ne, va_uu, i_ofNat, i_add, i_mul, Nat.add_zero, Nat.zero_add, reduceIte, if_true, if_false, Nat.reduceEqDiff, ne_eq, not_false_eq_true, Nat.reduceEqDiff, not_true_eq_false, c1, tl_8 (show x < 900 by omega), e1, o2i]
theorem t_speciesNamed1 (ok : okN (A 1)) {t : Nat} (hi : I 12 = Int32.ofNat t) (h1 : 1 ≤ t) (ht : t ≤ 6) : fX3_speciesNamed m Γ (tw m I A S h) n = some (.inl (o2i (pSpN (A 8) (A 1) t)), tw m (va_up (va_up I 0 (Int32.ofNat 0)) 12 (Int32.ofNat 0)) A S h, 0, 0) := by
  have d1 : ¬ Int32.ofNat 1 = Int32.ofNat 0 := by decide
  have e1 := t_in1 (Γ := Γ) (h := tw m (va_up (va_up I 0 (Int32.ofNat 0)) 12 (Int32.ofNat 0)) A S h) (n := n) (a := (Int32.ofNat t).toInt64) (b := 1) (c := 6) (by rw [Int32.toInt_toInt64, i_toInt (by omega)]; show (1 : Int) ≤ t; omega) (by rw [Int32.toInt_toInt64, i_toInt (by omega)]; show (t : Int) ≤ 6; omega)
  have e2 := t_speciesNamed_p33 (Γ := Γ) (n := n) (m := m) (I := va_up (va_up I 0 (Int32.ofNat 0)) 12 (Int32.ofNat 0)) (S := S) (h := h) ok ht t 0 xFU (Int32.ofNat 0) (by omega) (by unfold xFU; omega)
  simp (maxDischargeDepth := 9) only [fX3_speciesNamed, xbind, xlet, xpure, tw_sel, tg_0, tg_4, tg_9, tg_12, tg_13, tg_14, tg_15, tg_16, tg_17, tg_18, tg_19, tg_20, tg_21, tg_24, tr_1, tr_2, tr_3, tr_5, tr_6, tr_7, tr_8, tr_10, tr_11, tr_22, tr_23, tp_0, tp_4, tp_9, tp_12, tp_13, tp_14, tp_15, tp_16, tp_17, tp_18, tp_19, tp_20, tp_21, tp_24, va_up_self, va_up_ne, va_uu, i_ofNat, i_add, i_mul, Nat.add_zero, Nat.zero_add, reduceIte, if_true, if_false, Nat.reduceEqDiff, ne_eq, not_false_eq_true, Nat.reduceEqDiff, not_true_eq_false, d1, hi, e1, e2, pSpN]
theorem t_speciesNamed0 {t : Nat} (hi : I 12 = Int32.ofNat t) (h9 : t ≤ 900) (ht : ¬ (1 ≤ t ∧ t ≤ 6)) : fX3_speciesNamed m Γ (tw m I A S h) n = some (.inl (-Int32.ofNat 1), tw m (va_up (va_up I 0 (Int32.ofNat 0)) 12 (Int32.ofNat 0)) A S h, 0, 0) := by
  have e1 := t_in0 (Γ := Γ) (h := tw m (va_up (va_up I 0 (Int32.ofNat 0)) 12 (Int32.ofNat 0)) A S h) (n := n) (a := (Int32.ofNat t).toInt64) (b := 1) (c := 6) (by rw [Int32.toInt_toInt64, i_toInt (by omega)]; intro q; apply ht; have q1 : (1 : Int) ≤ t := q.1; have q2 : (t : Int) ≤ 6 := q.2; omega)
  simp (maxDischargeDepth := 9) only [fX3_speciesNamed, xbind, xlet, xpure, tw_sel, tg_0, tg_4, tg_9, tg_12, tg_13, tg_14, tg_15, tg_16, tg_17, tg_18, tg_19, tg_20, tg_21, tg_24, tr_1, tr_2, tr_3, tr_5, tr_6, tr_7, tr_8, tr_10, tr_11, tr_22, tr_23, tp_0, tp_4, tp_9, tp_12, tp_13, tp_14, tp_15, tp_16, tp_17, tp_18, tp_19, tp_20, tp_21, tp_24, va_up_self, va_up_ne, va_uu, i_ofNat, i_add, i_mul, Nat.add_zero, Nat.zero_add, reduceIte, if_true, if_false, Nat.reduceEqDiff, ne_eq, not_false_eq_true, Nat.reduceEqDiff, not_true_eq_false, hi, e1]
end TW33
