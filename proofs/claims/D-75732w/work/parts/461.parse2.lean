/-! part 461: the twin's parser: blanks -/
/-- the place behind the blanks -/
def pBl (T : Nat → Int32) (len : Nat) : Nat → Nat → Nat
  | 0, p => p
  | k + 1, p => if pAt T len p (Int32.ofNat 9) (Int32.ofNat 10) = true ∨ pAt T len p (Int32.ofNat 32) (Int32.ofNat 32) = true then pBl T len k (p + 1) else p
section TP2
variable {Γ : Nat → Option Nat} {m n : Nat} {I : Nat → Int32} {A : Nat → Nat → Int32} {S : Nat → Int64} {h : xH} {s : Nat}
theorem t_blanks_p8 {len : Nat} (hl : I 15 = Int32.ofNat len) (hl' : len ≤ 900) : ∀ (k p fu : Nat), p + k = len → k < fu → fX3_blanks_p8 fu m Γ (tw m (va_up I 13 (Int32.ofNat p)) A S h) n = some (.inl (), tw m (va_up (va_up I 13 (Int32.ofNat (pBl (A 8) len k p))) 14 (Int32.ofNat (pBl (A 8) len k p))) A S h, 0, 0) := by
  intro k
  induction k with
  | zero =>
    intro p fu hp hf
    obtain ⟨fu, rfl⟩ : ∃ g, fu = g + 1 := ⟨fu - 1, by omega⟩
    have e1 := fun lo hi => t_isAt (Γ := Γ) (n := n) (m := m) (I := va_up I 13 (Int32.ofNat p)) (A := A) (S := S) (h := h) (p := p) (len := len) (lo := lo) (hi := hi) (va_up_self _ _ _) (by rw [va_up_ne _ _ (by omega)]; exact hl) hl' (by omega)
    have z : ∀ lo hi, pAt (A 8) len p lo hi = false := fun lo hi => by unfold pAt; rw [decide_eq_false (by omega), Bool.false_and]
    rw [fX3_blanks_p8]
    simp (maxDischargeDepth := 9) only [xbind, xlet, xpure, tw_sel, tg_0, tg_4, tg_9, tg_12, tg_13, tg_14, tg_15, tg_16, tg_17, tg_18, tg_19, tg_20, tg_21, tg_24, tr_1, tr_2, tr_3, tr_5, tr_6, tr_7, tr_8, tr_10, tr_11, tr_22, tr_23, tp_0, tp_4, tp_9, tp_12, tp_13, tp_14, tp_15, tp_16, tp_17, tp_18, tp_19, tp_20, tp_21, tp_24, va_up_self, va_up_ne, va_uu, i_ofNat, i_add, i_mul, Nat.add_zero, Nat.zero_add, reduceIte, if_true, if_false, Nat.reduceEqDiff, ne_eq, not_false_eq_true, Nat.reduceEqDiff, not_true_eq_false, e1, z, b2i_f, pBl]
  | succ k ih =>
    intro p fu hp hf
    obtain ⟨fu, rfl⟩ : ∃ g, fu = g + 1 := ⟨fu - 1, by omega⟩
    have e1 := fun lo hi => t_isAt (Γ := Γ) (n := n) (m := m) (I := va_up I 13 (Int32.ofNat p)) (A := A) (S := S) (h := h) (p := p) (len := len) (lo := lo) (hi := hi) (va_up_self _ _ _) (by rw [va_up_ne _ _ (by omega)]; exact hl) hl' (by omega)
    have d1 : ¬ Int32.ofNat 1 = Int32.ofNat 0 := by decide
    have e2 := ih (p + 1) fu (by omega) (by omega)
    rw [fX3_blanks_p8, pBl]
    cases c1 : pAt (A 8) len p (Int32.ofNat 9) (Int32.ofNat 10) with
    | true => simp (maxDischargeDepth := 9) only [xbind, xlet, xpure, tw_sel, tg_0, tg_4, tg_9, tg_12, tg_13, tg_14, tg_15, tg_16, tg_17, tg_18, tg_19, tg_20, tg_21, tg_24, tr_1, tr_2, tr_3, tr_5, tr_6, tr_7, tr_8, tr_10, tr_11, tr_22, tr_23, tp_0, tp_4, tp_9, tp_12, tp_13, tp_14, tp_15, tp_16, tp_17, tp_18, tp_19, tp_20, tp_21, tp_24, va_up_self, va_up_ne, va_uu, i_ofNat, i_add, i_mul, Nat.add_zero, Nat.zero_add, reduceIte, if_true, if_false, Nat.reduceEqDiff, ne_eq, not_false_eq_true, Nat.reduceEqDiff, not_true_eq_false, e1, c1, b2i_t, d1, fX3_blanks_p30, e2, true_or]
    | false =>
      cases c2 : pAt (A 8) len p (Int32.ofNat 32) (Int32.ofNat 32) with
      | true => simp (maxDischargeDepth := 9) only [xbind, xlet, xpure, tw_sel, tg_0, tg_4, tg_9, tg_12, tg_13, tg_14, tg_15, tg_16, tg_17, tg_18, tg_19, tg_20, tg_21, tg_24, tr_1, tr_2, tr_3, tr_5, tr_6, tr_7, tr_8, tr_10, tr_11, tr_22, tr_23, tp_0, tp_4, tp_9, tp_12, tp_13, tp_14, tp_15, tp_16, tp_17, tp_18, tp_19, tp_20, tp_21, tp_24, va_up_self, va_up_ne, va_uu, i_ofNat, i_add, i_mul, Nat.add_zero, Nat.zero_add, reduceIte, if_true, if_false, Nat.reduceEqDiff, ne_eq, not_false_eq_true, Nat.reduceEqDiff, not_true_eq_false, e1, c1, c2, b2i_t, b2i_f, d1, fX3_blanks_p30, e2, or_true]
      | false => simp (maxDischargeDepth := 9) only [xbind, xlet, xpure, tw_sel, tg_0, tg_4, tg_9, tg_12, tg_13, tg_14, tg_15, tg_16, tg_17, tg_18, tg_19, tg_20, tg_21, tg_24, tr_1, tr_2, tr_3, tr_5, tr_6, tr_7, tr_8, tr_10, tr_11, tr_22, tr_23, tp_0, tp_4, tp_9, tp_12, tp_13, tp_14, tp_15, tp_16, tp_17, tp_18, tp_19, tp_20, tp_21, tp_24, va_up_self, va_up_ne, va_uu, i_ofNat, i_add, i_mul, Nat.add_zero, Nat.zero_add, reduceIte, if_true, if_false, Nat.reduceEqDiff, ne_eq, not_false_eq_true, Nat.reduceEqDiff, not_true_eq_false, e1, c1, c2, b2i_f, Bool.false_eq_true, or_self]
end TP2
section TP3
variable {Γ : Nat → Option Nat} {m n : Nat} {I : Nat → Int32} {A : Nat → Nat → Int32} {S : Nat → Int64} {h : xH} {s : Nat}
theorem t_blanks0 {len p : Nat} (hf : I 16 = -Int32.ofNat 1) (hp : I 13 = Int32.ofNat p) (hl : I 15 = Int32.ofNat len) (hl' : len ≤ 900) (hp' : p ≤ len) : fX3_blanks m Γ (tw m I A S h) n = some (.inl (), tw m (va_up (va_up I 13 (Int32.ofNat (pBl (A 8) len (len - p) p))) 14 (Int32.ofNat (pBl (A 8) len (len - p) p))) A S h, 0, 0) := by
  have e0 := t_hasFailed0 (Γ := Γ) (n := n) (m := m) (A := A) (S := S) (h := h) hf
  have e1 := t_blanks_p8 (Γ := Γ) (n := n) (m := m) (I := I) (A := A) (S := S) (h := h) hl hl' (len - p) p xFU (by omega) (by unfold xFU; omega)
  rw [← hp, va_id] at e1
  simp (maxDischargeDepth := 9) only [fX3_blanks_p30, fX3_blanks, xbind, xlet, xpure, tw_sel, tg_0, tg_4, tg_9, tg_12, tg_13, tg_14, tg_15, tg_16, tg_17, tg_18, tg_19, tg_20, tg_21, tg_24, tr_1, tr_2, tr_3, tr_5, tr_6, tr_7, tr_8, tr_10, tr_11, tr_22, tr_23, tp_0, tp_4, tp_9, tp_12, tp_13, tp_14, tp_15, tp_16, tp_17, tp_18, tp_19, tp_20, tp_21, tp_24, va_up_self, va_up_ne, va_uu, i_ofNat, i_add, i_mul, Nat.add_zero, Nat.zero_add, reduceIte, if_true, if_false, Nat.reduceEqDiff, ne_eq, not_false_eq_true, Nat.reduceEqDiff, not_true_eq_false, e0, e1]
theorem t_blanks1 (hf : ¬ I 16 = -Int32.ofNat 1) : fX3_blanks m Γ (tw m I A S h) n = some (.inl (), tw m I A S h, 0, 0) := by
  have e0 := t_hasFailed1 (Γ := Γ) (n := n) (m := m) (A := A) (S := S) (h := h) hf
  have d1 : ¬ Int32.ofNat 1 = Int32.ofNat 0 := by decide
  simp (maxDischargeDepth := 9) only [fX3_blanks_p30, fX3_blanks, xbind, xlet, xpure, tw_sel, tg_0, tg_4, tg_9, tg_12, tg_13, tg_14, tg_15, tg_16, tg_17, tg_18, tg_19, tg_20, tg_21, tg_24, tr_1, tr_2, tr_3, tr_5, tr_6, tr_7, tr_8, tr_10, tr_11, tr_22, tr_23, tp_0, tp_4, tp_9, tp_12, tp_13, tp_14, tp_15, tp_16, tp_17, tp_18, tp_19, tp_20, tp_21, tp_24, va_up_self, va_up_ne, va_uu, i_ofNat, i_add, i_mul, Nat.add_zero, Nat.zero_add, reduceIte, if_true, if_false, Nat.reduceEqDiff, ne_eq, not_false_eq_true, Nat.reduceEqDiff, not_true_eq_false, e0, d1]
theorem t_must1 {k : Int32} : fX3_must m (Int32.ofNat 1) k Γ (tw m I A S h) n = some (.inl (), tw m I A S h, 0, 0) := by
  have d1 : ¬ Int32.ofNat 1 = Int32.ofNat 0 := by decide
  simp (maxDischargeDepth := 9) only [fX3_must, xbind, xlet, xpure, tw_sel, tg_0, tg_4, tg_9, tg_12, tg_13, tg_14, tg_15, tg_16, tg_17, tg_18, tg_19, tg_20, tg_21, tg_24, tr_1, tr_2, tr_3, tr_5, tr_6, tr_7, tr_8, tr_10, tr_11, tr_22, tr_23, tp_0, tp_4, tp_9, tp_12, tp_13, tp_14, tp_15, tp_16, tp_17, tp_18, tp_19, tp_20, tp_21, tp_24, va_up_self, va_up_ne, va_uu, i_ofNat, i_add, i_mul, Nat.add_zero, Nat.zero_add, reduceIte, if_true, if_false, Nat.reduceEqDiff, ne_eq, not_false_eq_true, Nat.reduceEqDiff, not_true_eq_false, d1]
theorem t_must0 {k : Int32} (hf : I 16 = -Int32.ofNat 1) : fX3_must m (Int32.ofNat 0) k Γ (tw m I A S h) n = some (.inl (), tw m (va_up (va_up I 16 (I 14)) 17 k) A S h, 0, 0) := by
  have e0 := t_hasFailed0 (Γ := Γ) (n := n) (m := m) (A := A) (S := S) (h := h) hf
  simp (maxDischargeDepth := 9) only [fX3_must, xbind, xlet, xpure, tw_sel, tg_0, tg_4, tg_9, tg_12, tg_13, tg_14, tg_15, tg_16, tg_17, tg_18, tg_19, tg_20, tg_21, tg_24, tr_1, tr_2, tr_3, tr_5, tr_6, tr_7, tr_8, tr_10, tr_11, tr_22, tr_23, tp_0, tp_4, tp_9, tp_12, tp_13, tp_14, tp_15, tp_16, tp_17, tp_18, tp_19, tp_20, tp_21, tp_24, va_up_self, va_up_ne, va_uu, i_ofNat, i_add, i_mul, Nat.add_zero, Nat.zero_add, reduceIte, if_true, if_false, Nat.reduceEqDiff, ne_eq, not_false_eq_true, Nat.reduceEqDiff, not_true_eq_false, e0]
theorem t_mustF {b k : Int32} (hf : ¬ I 16 = -Int32.ofNat 1) : fX3_must m b k Γ (tw m I A S h) n = some (.inl (), tw m I A S h, 0, 0) := by
  have e0 := t_hasFailed1 (Γ := Γ) (n := n) (m := m) (A := A) (S := S) (h := h) hf
  have d1 : ¬ Int32.ofNat 1 = Int32.ofNat 0 := by decide
  by_cases c : b = Int32.ofNat 0
  · simp (maxDischargeDepth := 9) only [fX3_must, xbind, xlet, xpure, tw_sel, tg_0, tg_4, tg_9, tg_12, tg_13, tg_14, tg_15, tg_16, tg_17, tg_18, tg_19, tg_20, tg_21, tg_24, tr_1, tr_2, tr_3, tr_5, tr_6, tr_7, tr_8, tr_10, tr_11, tr_22, tr_23, tp_0, tp_4, tp_9, tp_12, tp_13, tp_14, tp_15, tp_16, tp_17, tp_18, tp_19, tp_20, tp_21, tp_24, va_up_self, va_up_ne, va_uu, i_ofNat, i_add, i_mul, Nat.add_zero, Nat.zero_add, reduceIte, if_true, if_false, Nat.reduceEqDiff, ne_eq, not_false_eq_true, Nat.reduceEqDiff, not_true_eq_false, e0, d1, c]
  · simp (maxDischargeDepth := 9) only [fX3_must, xbind, xlet, xpure, tw_sel, tg_0, tg_4, tg_9, tg_12, tg_13, tg_14, tg_15, tg_16, tg_17, tg_18, tg_19, tg_20, tg_21, tg_24, tr_1, tr_2, tr_3, tr_5, tr_6, tr_7, tr_8, tr_10, tr_11, tr_22, tr_23, tp_0, tp_4, tp_9, tp_12, tp_13, tp_14, tp_15, tp_16, tp_17, tp_18, tp_19, tp_20, tp_21, tp_24, va_up_self, va_up_ne, va_uu, i_ofNat, i_add, i_mul, Nat.add_zero, Nat.zero_add, reduceIte, if_true, if_false, Nat.reduceEqDiff, ne_eq, not_false_eq_true, Nat.reduceEqDiff, not_true_eq_false, c]
end TP3
