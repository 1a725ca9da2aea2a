/-! part 442: the twin: doubles: expectation, growth, share -/
def pSumA (N : Nat → Int32) (s : Nat) : Nat → Nat → Int32 → Int32
  | _, 0, v => v
  | x, k + 1, v => pSumA N s (x + 1) k (v + pAliveOf N s x)
def dHalf : UInt64 := 4602678819172646912
theorem d_half : dFin (4602678819172646912 : UInt64) := ⟨false, 4503599627370496, -53, by decide⟩
theorem d_i0 {v : Int32} (h : v ≠ Int32.ofNat 0) : v.toInt ≠ 0 := by
  intro q
  apply h
  rw [← Int32.toInt_inj, q]
  rfl
/-- the remaining years of age a -/
def pExpc (N : Nat → Int32) (s a : Nat) : UInt64 := if pAliveOf N s a = Int32.ofNat 0 then FP.dconst0 else FP.dadd (FP.ddiv (FP.i2d (pSumA N s (a + 1) (nn (N (zI s 1)) - a) (Int32.ofNat 0))) (FP.i2d (pAliveOf N s a))) (4602678819172646912 : UInt64)
section TW30
variable {Γ : Nat → Option Nat} {m n : Nat} {I : Nat → Int32} {A : Nat → Nat → Int32} {S : Nat → Int64} {h : xH} {s : Nat}
theorem t_expectation_p32 {a o : Nat} (hs : s < 4) (ho : A 1 (zI s 1) = Int32.ofNat o) (ho' : o ≤ 12) (ha : a ≤ o) (hz : pAliveOf (A 1) s a ≠ Int32.ofNat 0) : ∀ (k x fu : Nat) (v : Int32), x + k = o + 1 → k < fu → fX3_expectation_p32 fu m (Int32.ofNat s) (Int32.ofNat a) v (Int32.ofNat x) Γ (tw m I A S h) n = some (.inl (FP.dadd (FP.ddiv (FP.i2d (pSumA (A 1) s x k v)) (FP.i2d (pAliveOf (A 1) s a))) (4602678819172646912 : UInt64)), tw m I A S h, 0, 0) := by
  have e := t_oldest (Γ := Γ) (n := n) (m := m) (I := I) (A := A) (S := S) (h := h) hs
  rw [ho] at e
  intro k
  induction k with
  | zero =>
    intro x fu v hx hf
    obtain ⟨fu, rfl⟩ : ∃ g, fu = g + 1 := ⟨fu - 1, by omega⟩
    have c1 : Int32.ofNat o < Int32.ofNat x := by rw [i_lt (by omega) (by omega)]; omega
    have e1 := t_aliveOf (Γ := Γ) (n := n) (m := m) (I := I) (A := A) (S := S) (h := h) hs (show a ≤ 13 by omega)
    have q1 := fun (k : xM UInt64) => x_ddiv (k := k) (dFin.i2d v).num (dNz.i2d (d_i0 hz))
    have q2 := fun (k : xM UInt64) => x_dadd (k := k) (dNum.div (dFin.i2d v).num (dNz.i2d (d_i0 hz))) d_half
    rw [fX3_expectation_p32]
    simp (maxDischargeDepth := 9) only [xbind, xlet, xpure, tw_sel, tg_0, tg_4, tg_9, tg_12, tg_13, tg_14, tg_15, tg_16, tg_17, tg_18, tg_19, tg_20, tg_21, tg_24, tr_1, tr_2, tr_3, tr_5, tr_6, tr_7, tr_8, tr_10, tr_11, tr_22, tr_23, tp_0, tp_4, tp_9, tp_12, tp_13, tp_14, tp_15, tp_16, tp_17, tp_18, tp_19, tp_20, tp_21, tp_24, va_up_self, va_up_ne, va_uu, i_ofNat, i_add, i_mul, Nat.add_zero, Nat.zero_add, reduceIte, if_true, if_false, Nat.reduceEqDiff, ne_eq, not_false_eq_true, Nat.reduceEqDiff, not_true_eq_false, e, c1, e1, pSumA, q1, q2]
  | succ k ih =>
    intro x fu v hx hf
    obtain ⟨fu, rfl⟩ : ∃ g, fu = g + 1 := ⟨fu - 1, by omega⟩
    have c1 : ¬ (Int32.ofNat o < Int32.ofNat x) := by rw [i_lt (by omega) (by omega)]; omega
    have e1 := t_aliveOf (Γ := Γ) (n := n) (m := m) (I := I) (A := A) (S := S) (h := h) hs (show x ≤ 13 by omega)
    have e2 := ih (x + 1) fu (v + pAliveOf (A 1) s x) (by omega) (by omega)
    rw [fX3_expectation_p32]
    simp (maxDischargeDepth := 9) only [xbind, xlet, xpure, tw_sel, tg_0, tg_4, tg_9, tg_12, tg_13, tg_14, tg_15, tg_16, tg_17, tg_18, tg_19, tg_20, tg_21, tg_24, tr_1, tr_2, tr_3, tr_5, tr_6, tr_7, tr_8, tr_10, tr_11, tr_22, tr_23, tp_0, tp_4, tp_9, tp_12, tp_13, tp_14, tp_15, tp_16, tp_17, tp_18, tp_19, tp_20, tp_21, tp_24, va_up_self, va_up_ne, va_uu, i_ofNat, i_add, i_mul, Nat.add_zero, Nat.zero_add, reduceIte, if_true, if_false, Nat.reduceEqDiff, ne_eq, not_false_eq_true, Nat.reduceEqDiff, not_true_eq_false, e, c1, e1, pSumA, e2]
theorem t_expectation1 (ok : okN (A 1)) {x : Nat} (hs : s < nn (A 1 0)) (hx : x ≤ nn (A 1 (zI s 1))) : fX3_expectation m (Int32.ofNat s) (Int32.ofNat x) Γ (tw m I A S h) n = some (.inl (pExpc (A 1) s x), tw m (va_up I 0 (Int32.ofNat 0)) A S h, 0, 0) := by
  have b := t_hx12 ok hs hx
  have hS := ok.2.2.2.2.2.2.2.2.1 s hs
  have h1 := hS.1
  unfold nN at h1
  have h12 := hS.2.1
  have e0 := t_noAge1 (Γ := Γ) (n := n) (m := m) (I := va_up I 0 (Int32.ofNat 0)) (S := S) (h := h) ok hs hx
  have e1 := t_aliveOf (Γ := Γ) (n := n) (m := m) (I := va_up I 0 (Int32.ofNat 0)) (A := A) (S := S) (h := h) b.1 (show x ≤ 13 by omega)
  unfold pExpc
  by_cases hz : pAliveOf (A 1) s x = Int32.ofNat 0
  · have z1 := eq_true hz
    simp (maxDischargeDepth := 9) only [fX3_expectation_p23, fX3_expectation, xbind, xlet, xpure, tw_sel, tg_0, tg_4, tg_9, tg_12, tg_13, tg_14, tg_15, tg_16, tg_17, tg_18, tg_19, tg_20, tg_21, tg_24, tr_1, tr_2, tr_3, tr_5, tr_6, tr_7, tr_8, tr_10, tr_11, tr_22, tr_23, tp_0, tp_4, tp_9, tp_12, tp_13, tp_14, tp_15, tp_16, tp_17, tp_18, tp_19, tp_20, tp_21, tp_24, va_up_self, va_up_ne, va_uu, i_ofNat, i_add, i_mul, Nat.add_zero, Nat.zero_add, reduceIte, if_true, if_false, Nat.reduceEqDiff, ne_eq, not_false_eq_true, Nat.reduceEqDiff, not_true_eq_false, e0, e1, hz]
  · have e2 := t_expectation_p32 (Γ := Γ) (n := n) (m := m) (I := va_up I 0 (Int32.ofNat 0)) (A := A) (S := S) (h := h) b.1 h1 h12 hx hz (nn (A 1 (zI s 1)) - x) (x + 1) xFU (Int32.ofNat 0) (by omega) (by unfold xFU; omega)
    simp (maxDischargeDepth := 9) only [fX3_expectation_p23, fX3_expectation, xbind, xlet, xpure, tw_sel, tg_0, tg_4, tg_9, tg_12, tg_13, tg_14, tg_15, tg_16, tg_17, tg_18, tg_19, tg_20, tg_21, tg_24, tr_1, tr_2, tr_3, tr_5, tr_6, tr_7, tr_8, tr_10, tr_11, tr_22, tr_23, tp_0, tp_4, tp_9, tp_12, tp_13, tp_14, tp_15, tp_16, tp_17, tp_18, tp_19, tp_20, tp_21, tp_24, va_up_self, va_up_ne, va_uu, i_ofNat, i_add, i_mul, Nat.add_zero, Nat.zero_add, reduceIte, if_true, if_false, Nat.reduceEqDiff, ne_eq, not_false_eq_true, Nat.reduceEqDiff, not_true_eq_false, e0, e1, hz, e2]
theorem t_expectation0 (ok : okN (A 1)) {p q : Int32} (hp : ¬ vA (A 1) p q) : fX3_expectation m p q Γ (tw m I A S h) n = some (.inl FP.dconst0, tw m (va_up I 0 (Int32.ofNat 1)) A S h, 0, 0) := by
  have e0 := t_noAge0 (Γ := Γ) (n := n) (m := m) (I := va_up I 0 (Int32.ofNat 0)) (S := S) (h := h) ok hp
  simp (maxDischargeDepth := 9) only [fX3_expectation_p23, fX3_expectation, xbind, xlet, xpure, tw_sel, tg_0, tg_4, tg_9, tg_12, tg_13, tg_14, tg_15, tg_16, tg_17, tg_18, tg_19, tg_20, tg_21, tg_24, tr_1, tr_2, tr_3, tr_5, tr_6, tr_7, tr_8, tr_10, tr_11, tr_22, tr_23, tp_0, tp_4, tp_9, tp_12, tp_13, tp_14, tp_15, tp_16, tp_17, tp_18, tp_19, tp_20, tp_21, tp_24, va_up_self, va_up_ne, va_uu, i_ofNat, i_add, i_mul, Nat.add_zero, Nat.zero_add, reduceIte, if_true, if_false, Nat.reduceEqDiff, ne_eq, not_false_eq_true, Nat.reduceEqDiff, not_true_eq_false, e0, i_10]
end TW30
