/-! part 412: the twin's years -/
theorem zI_ne {s a b : Nat} (h : a ≠ b) : zI s a ≠ zI s b := by unfold zI; omega
theorem zI_ne2 {s t a b : Nat} (h : s ≠ t) (ha : a < 132) (hb : b < 132) : zI s a ≠ zI t b := by unfold zI; omega
theorem i_64z {v : Int32} : v.toInt64 = 0 ↔ v = 0 := by
  rw [← Int64.toInt_inj, ← Int32.toInt_inj, Int32.toInt_toInt64]
  rfl
theorem i_64p {v : Int32} (h : ¬ v ≤ 0) : ¬ v.toInt64 = 0 := by
  rw [i_64z]
  rintro rfl
  exact h (by decide)
theorem i_le0 {v : Int32} : v ≤ Int32.ofNat 0 ↔ v ≤ 0 := Iff.rfl
def pLose (N : Nat → Int32) (s o : Nat) (before : Int32) : Nat → Int32 := if before ≤ 0 then N else va_up N (zI s 4) (((N (zI s 4)).toInt64 * (pTot N s o).toInt64 / before.toInt64).toInt32)
def pAdds (N : Nat → Int32) (s x : Nat) (v : Int32) : Nat → Int32 := va_up (va_up N (zI s (39 + x)) (N (zI s (39 + x)) + v)) (zI s 11) (va_up N (zI s (39 + x)) (N (zI s (39 + x)) + v) (zI s 11) + v)
def pTake0 (N : Nat → Int32) (s x : Nat) (v : Int32) : Nat → Int32 := va_up (va_up N (zI s (39 + x)) (N (zI s (39 + x)) - v)) (zI s 10) (va_up N (zI s (39 + x)) (N (zI s (39 + x)) - v) (zI s 10) + v)
def pTake (N : Nat → Int32) (s o x : Nat) (v : Int32) : Nat → Int32 := pLose (pTake0 N s x v) s o (pTot N s o)
section TW2
variable {Γ : Nat → Option Nat} {m n : Nat} {I : Nat → Int32} {A : Nat → Nat → Int32} {S : Nat → Int64} {h : xH}
theorem t_losesMarks {s o : Nat} (hs : s < 4) (ho : A 1 (zI s 1) = Int32.ofNat o) (ho' : o ≤ 12) (b : Int32) : fX3_losesMarks m (Int32.ofNat s) b Γ (tw m I A S h) n = some (.inl (), tw m I (va_up A 1 (pLose (A 1) s o b)) S h, 0, 0) := by
  by_cases hb : b ≤ Int32.ofNat 0
  · simp only [fX3_losesMarks, pLose, i_ofNat, hb, if_true, xpure, va_id]
  · have e1 := t_of (Γ := Γ) (n := n) (m := m) (I := I) (A := A) (S := S) (h := h) hs (show 4 < 132 by omega)
    have e2 := t_totalOf (Γ := Γ) (n := n) (m := m) (I := I) (A := A) (S := S) (h := h) hs ho ho'
    have e3 := i_64p hb
    simp (maxDischargeDepth := 9) only [fX3_losesMarks, pLose, hb, e1, e2, t_at2, xdvJ, e3, ts_1 (zI_lt hs (show 4 < 132 by omega)), xbind, xlet, xpure, tw_sel, tg_0, tg_4, tg_9, tg_12, tg_13, tg_14, tg_15, tg_16, tg_17, tg_18, tg_19, tg_20, tg_21, tg_24, tr_1, tr_2, tr_3, tr_5, tr_6, tr_7, tr_8, tr_10, tr_11, tr_22, tr_23, tp_0, tp_4, tp_9, tp_12, tp_13, tp_14, tp_15, tp_16, tp_17, tp_18, tp_19, tp_20, tp_21, tp_24, va_up_self, va_up_ne, va_uu, i_ofNat, i_add, i_mul, Nat.add_zero, Nat.zero_add, reduceIte, if_true, if_false, Nat.reduceEqDiff, ne_eq, not_false_eq_true, Nat.reduceEqDiff, not_true_eq_false]
theorem t_adds {s x : Nat} (hs : s < 4) (hx : x < 13) (v : Int32) : fX3_adds m (Int32.ofNat s) (Int32.ofNat x) v Γ (tw m I A S h) n = some (.inl (), tw m I (va_up A 1 (pAdds (A 1) s x v)) S h, 0, 0) := by
  have h1 := zI_lt hs (show 39 + x < 132 by omega)
  have h2 := zI_lt hs (show 11 < 132 by omega)
  simp (maxDischargeDepth := 9) only [fX3_adds, pAdds, t_at2, tl_1 h1, ts_1 h1, tl_1 h2, ts_1 h2, xbind, xlet, xpure, tw_sel, tg_0, tg_4, tg_9, tg_12, tg_13, tg_14, tg_15, tg_16, tg_17, tg_18, tg_19, tg_20, tg_21, tg_24, tr_1, tr_2, tr_3, tr_5, tr_6, tr_7, tr_8, tr_10, tr_11, tr_22, tr_23, tp_0, tp_4, tp_9, tp_12, tp_13, tp_14, tp_15, tp_16, tp_17, tp_18, tp_19, tp_20, tp_21, tp_24, va_up_self, va_up_ne, va_uu, i_ofNat, i_add, i_mul, Nat.add_zero, Nat.zero_add, reduceIte, if_true, if_false, Nat.reduceEqDiff, ne_eq, not_false_eq_true, Nat.reduceEqDiff, not_true_eq_false]
theorem t_takesOut {s o x : Nat} (hs : s < 4) (ho : A 1 (zI s 1) = Int32.ofNat o) (ho' : o ≤ 12) (hx : x < 13) (v : Int32) : fX3_takesOut m (Int32.ofNat s) (Int32.ofNat x) v Γ (tw m I A S h) n = some (.inl (), tw m I (va_up A 1 (pTake (A 1) s o x v)) S h, 0, 0) := by
  have h1 := zI_lt hs (show 39 + x < 132 by omega)
  have h2 := zI_lt hs (show 10 < 132 by omega)
  have e2 := t_totalOf (Γ := Γ) (n := n) (m := m) (I := I) (A := A) (S := S) (h := h) hs ho ho'
  have e3 := t_losesMarks (Γ := Γ) (n := n) (m := m) (I := I) (A := va_up A 1 (pTake0 (A 1) s x v)) (S := S) (h := h) (o := o) hs (by
    rw [va_up_self]
    unfold pTake0
    rw [va_up_ne _ _ (zI_ne (by omega)), va_up_ne _ _ (zI_ne (by omega))]
    exact ho) ho' (pTot (A 1) s o)
  unfold pTake0 at e3
  simp (maxDischargeDepth := 9) only [fX3_takesOut, pTake, pTake0, t_at2, tl_1 h1, ts_1 h1, tl_1 h2, ts_1 h2, e2, xbind, xlet, xpure, tw_sel, tg_0, tg_4, tg_9, tg_12, tg_13, tg_14, tg_15, tg_16, tg_17, tg_18, tg_19, tg_20, tg_21, tg_24, tr_1, tr_2, tr_3, tr_5, tr_6, tr_7, tr_8, tr_10, tr_11, tr_22, tr_23, tp_0, tp_4, tp_9, tp_12, tp_13, tp_14, tp_15, tp_16, tp_17, tp_18, tp_19, tp_20, tp_21, tp_24, va_up_self, va_up_ne, va_uu, i_ofNat, i_add, i_mul, Nat.add_zero, Nat.zero_add, reduceIte, if_true, if_false, Nat.reduceEqDiff, ne_eq, not_false_eq_true, Nat.reduceEqDiff, not_true_eq_false] at e3 ⊢
  simp (maxDischargeDepth := 9) only [e3, xbind, xlet, xpure, tw_sel, tg_0, tg_4, tg_9, tg_12, tg_13, tg_14, tg_15, tg_16, tg_17, tg_18, tg_19, tg_20, tg_21, tg_24, tr_1, tr_2, tr_3, tr_5, tr_6, tr_7, tr_8, tr_10, tr_11, tr_22, tr_23, tp_0, tp_4, tp_9, tp_12, tp_13, tp_14, tp_15, tp_16, tp_17, tp_18, tp_19, tp_20, tp_21, tp_24, va_up_self, va_up_ne, va_uu, i_ofNat, i_add, i_mul, Nat.add_zero, Nat.zero_add, reduceIte, if_true, if_false, Nat.reduceEqDiff, ne_eq, not_false_eq_true, Nat.reduceEqDiff, not_true_eq_false]
end TW2
