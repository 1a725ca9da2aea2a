/-! part 411: the twin's readers -/
/-- f x + f (x + 1) + .. (k of them) -/
def isum (f : Nat → Int32) : Nat → Nat → Int32
  | _, 0 => Int32.ofNat 0
  | x, k + 1 => f x + isum f (x + 1) k
/-- the twin's row: the number w of species s -/
def zI (s w : Nat) : Nat := 64 + 132 * s + w
theorem i_add0 (a : Int32) : a + Int32.ofNat 0 = a := Int32.add_zero a
theorem i_0add (a : Int32) : Int32.ofNat 0 + a = a := Int32.zero_add a
section TW1
variable {Γ : Nat → Option Nat} {m n : Nat} {I : Nat → Int32} {A : Nat → Nat → Int32} {S : Nat → Int64} {h : xH}
theorem t_at (p0 p1 : Int32) : fX3_at p0 p1 Γ h n = some (.inl (64 + 132 * p0 + p1), h, 0, 0) := rfl
theorem t_at2 (s w : Nat) : fX3_at (Int32.ofNat s) (Int32.ofNat w) Γ h n = some (.inl (Int32.ofNat (zI s w)), h, 0, 0) := by
  rw [t_at, i_ofNat, i_ofNat, i_mul, i_add, i_add]
  rfl
theorem zI_lt {s w : Nat} (hs : s < 4) (hw : w < 132) : zI s w < 592 := by unfold zI; omega
theorem t_of {s w : Nat} (hs : s < 4) (hw : w < 132) : fX3_of m (Int32.ofNat s) (Int32.ofNat w) Γ (tw m I A S h) n = some (.inl (A 1 (zI s w)), tw m I A S h, 0, 0) := by
  have e := tl_1 (Γ := Γ) (n := n) (m := m) (I := I) (A := A) (S := S) (h := h) (zI_lt hs hw)
  simp (maxDischargeDepth := 9) only [fX3_of, t_at2, e, xbind, xlet, xpure, tw_sel, tg_0, tg_4, tg_9, tg_12, tg_13, tg_14, tg_15, tg_16, tg_17, tg_18, tg_19, tg_20, tg_21, tg_24, tr_1, tr_2, tr_3, tr_5, tr_6, tr_7, tr_8, tr_10, tr_11, tr_22, tr_23, tp_0, tp_4, tp_9, tp_12, tp_13, tp_14, tp_15, tp_16, tp_17, tp_18, tp_19, tp_20, tp_21, tp_24, va_up_self, va_up_ne, va_uu, i_ofNat, i_add, i_mul, Nat.add_zero, Nat.zero_add, reduceIte, if_true, if_false, Nat.reduceEqDiff, ne_eq, not_false_eq_true, Nat.reduceEqDiff, not_true_eq_false]
theorem t_oldest {s : Nat} (hs : s < 4) : fX3_oldest m (Int32.ofNat s) Γ (tw m I A S h) n = some (.inl (A 1 (zI s 1)), tw m I A S h, 0, 0) := by
  have e := t_of (Γ := Γ) (n := n) (m := m) (I := I) (A := A) (S := S) (h := h) hs (show 1 < 132 by omega)
  simp (maxDischargeDepth := 9) only [fX3_oldest, e, xbind, xlet, xpure, tw_sel, tg_0, tg_4, tg_9, tg_12, tg_13, tg_14, tg_15, tg_16, tg_17, tg_18, tg_19, tg_20, tg_21, tg_24, tr_1, tr_2, tr_3, tr_5, tr_6, tr_7, tr_8, tr_10, tr_11, tr_22, tr_23, tp_0, tp_4, tp_9, tp_12, tp_13, tp_14, tp_15, tp_16, tp_17, tp_18, tp_19, tp_20, tp_21, tp_24, va_up_self, va_up_ne, va_uu, i_ofNat, i_add, i_mul, Nat.add_zero, Nat.zero_add, reduceIte, if_true, if_false, Nat.reduceEqDiff, ne_eq, not_false_eq_true, Nat.reduceEqDiff, not_true_eq_false]
theorem t_cohortOf {s x : Nat} (hs : s < 4) (hx : x < 93) : fX3_cohortOf m (Int32.ofNat s) (Int32.ofNat x) Γ (tw m I A S h) n = some (.inl (A 1 (zI s (39 + x))), tw m I A S h, 0, 0) := by
  have e := t_of (Γ := Γ) (n := n) (m := m) (I := I) (A := A) (S := S) (h := h) hs (show 39 + x < 132 by omega)
  simp (maxDischargeDepth := 9) only [fX3_cohortOf, e, xbind, xlet, xpure, tw_sel, tg_0, tg_4, tg_9, tg_12, tg_13, tg_14, tg_15, tg_16, tg_17, tg_18, tg_19, tg_20, tg_21, tg_24, tr_1, tr_2, tr_3, tr_5, tr_6, tr_7, tr_8, tr_10, tr_11, tr_22, tr_23, tp_0, tp_4, tp_9, tp_12, tp_13, tp_14, tp_15, tp_16, tp_17, tp_18, tp_19, tp_20, tp_21, tp_24, va_up_self, va_up_ne, va_uu, i_ofNat, i_add, i_mul, Nat.add_zero, Nat.zero_add, reduceIte, if_true, if_false, Nat.reduceEqDiff, ne_eq, not_false_eq_true, Nat.reduceEqDiff, not_true_eq_false]
theorem t_totalOf_p4 {s o : Nat} (hs : s < 4) (ho : A 1 (zI s 1) = Int32.ofNat o) (ho' : o ≤ 12) : ∀ (k x fu : Nat) (acc : Int32), x + k = o + 1 → k < fu → fX3_totalOf_p4 fu m (Int32.ofNat s) acc (Int32.ofNat x) Γ (tw m I A S h) n = some (.inl (acc + isum (fun x => A 1 (zI s (39 + x))) x k), tw m I A S h, 0, 0) := by
  have e := t_oldest (Γ := Γ) (n := n) (m := m) (I := I) (A := A) (S := S) (h := h) hs
  rw [ho] at e
  intro k
  induction k with
  | zero =>
    intro x fu acc hx hf
    obtain ⟨fu, rfl⟩ : ∃ g, fu = g + 1 := ⟨fu - 1, by omega⟩
    have c1 : Int32.ofNat o < Int32.ofNat x := by rw [i_lt (by omega) (by omega)]; omega
    rw [fX3_totalOf_p4]
    simp (maxDischargeDepth := 9) only [e, c1, isum, i_add0, xbind, xlet, xpure, tw_sel, tg_0, tg_4, tg_9, tg_12, tg_13, tg_14, tg_15, tg_16, tg_17, tg_18, tg_19, tg_20, tg_21, tg_24, tr_1, tr_2, tr_3, tr_5, tr_6, tr_7, tr_8, tr_10, tr_11, tr_22, tr_23, tp_0, tp_4, tp_9, tp_12, tp_13, tp_14, tp_15, tp_16, tp_17, tp_18, tp_19, tp_20, tp_21, tp_24, va_up_self, va_up_ne, va_uu, i_ofNat, i_add, i_mul, Nat.add_zero, Nat.zero_add, reduceIte, if_true, if_false, Nat.reduceEqDiff, ne_eq, not_false_eq_true, Nat.reduceEqDiff, not_true_eq_false]
  | succ k ih =>
    intro x fu acc hx hf
    obtain ⟨fu, rfl⟩ : ∃ g, fu = g + 1 := ⟨fu - 1, by omega⟩
    have c1 : ¬ Int32.ofNat o < Int32.ofNat x := by rw [i_lt (by omega) (by omega)]; omega
    have e2 := t_cohortOf (Γ := Γ) (n := n) (m := m) (I := I) (A := A) (S := S) (h := h) hs (show x < 93 by omega)
    rw [fX3_totalOf_p4]
    simp (maxDischargeDepth := 9) only [e, c1, e2, xbind, xlet, xpure, tw_sel, tg_0, tg_4, tg_9, tg_12, tg_13, tg_14, tg_15, tg_16, tg_17, tg_18, tg_19, tg_20, tg_21, tg_24, tr_1, tr_2, tr_3, tr_5, tr_6, tr_7, tr_8, tr_10, tr_11, tr_22, tr_23, tp_0, tp_4, tp_9, tp_12, tp_13, tp_14, tp_15, tp_16, tp_17, tp_18, tp_19, tp_20, tp_21, tp_24, va_up_self, va_up_ne, va_uu, i_ofNat, i_add, i_mul, Nat.add_zero, Nat.zero_add, reduceIte, if_true, if_false, Nat.reduceEqDiff, ne_eq, not_false_eq_true, Nat.reduceEqDiff, not_true_eq_false]
    rw [ih (x + 1) fu _ (by omega) (by omega)]
    simp only [isum, Int32.add_assoc]
/-- all animals of species s whose oldest age is o -/
def pTot (N : Nat → Int32) (s o : Nat) : Int32 := isum (fun x => N (zI s (39 + x))) 0 (o + 1)
/-- those from age a on -/
def pAdl (N : Nat → Int32) (s a o : Nat) : Int32 := isum (fun x => N (zI s (39 + x))) a (o + 1 - a)
theorem t_totalOf {s o : Nat} (hs : s < 4) (ho : A 1 (zI s 1) = Int32.ofNat o) (ho' : o ≤ 12) : fX3_totalOf m (Int32.ofNat s) Γ (tw m I A S h) n = some (.inl (pTot (A 1) s o), tw m I A S h, 0, 0) := by
  have e := t_totalOf_p4 (Γ := Γ) (n := n) (m := m) (I := I) (A := A) (S := S) (h := h) hs ho ho' (o + 1) 0 xFU (Int32.ofNat 0) (by omega) (by unfold xFU; omega)
  simp only [fX3_totalOf, xlet]
  rw [i_ofNat, e, i_0add]
  rfl
theorem t_adultsOf_p9 {s o : Nat} (hs : s < 4) (ho : A 1 (zI s 1) = Int32.ofNat o) (ho' : o ≤ 12) : ∀ (k x fu : Nat) (acc : Int32), x + k = o + 1 → k < fu → fX3_adultsOf_p9 fu m (Int32.ofNat s) acc (Int32.ofNat x) Γ (tw m I A S h) n = some (.inl (acc + isum (fun x => A 1 (zI s (39 + x))) x k), tw m I A S h, 0, 0) := by
  have e := t_oldest (Γ := Γ) (n := n) (m := m) (I := I) (A := A) (S := S) (h := h) hs
  rw [ho] at e
  intro k
  induction k with
  | zero =>
    intro x fu acc hx hf
    obtain ⟨fu, rfl⟩ : ∃ g, fu = g + 1 := ⟨fu - 1, by omega⟩
    have c1 : Int32.ofNat o < Int32.ofNat x := by rw [i_lt (by omega) (by omega)]; omega
    rw [fX3_adultsOf_p9]
    simp (maxDischargeDepth := 9) only [e, c1, isum, i_add0, xbind, xlet, xpure, tw_sel, tg_0, tg_4, tg_9, tg_12, tg_13, tg_14, tg_15, tg_16, tg_17, tg_18, tg_19, tg_20, tg_21, tg_24, tr_1, tr_2, tr_3, tr_5, tr_6, tr_7, tr_8, tr_10, tr_11, tr_22, tr_23, tp_0, tp_4, tp_9, tp_12, tp_13, tp_14, tp_15, tp_16, tp_17, tp_18, tp_19, tp_20, tp_21, tp_24, va_up_self, va_up_ne, va_uu, i_ofNat, i_add, i_mul, Nat.add_zero, Nat.zero_add, reduceIte, if_true, if_false, Nat.reduceEqDiff, ne_eq, not_false_eq_true, Nat.reduceEqDiff, not_true_eq_false]
  | succ k ih =>
    intro x fu acc hx hf
    obtain ⟨fu, rfl⟩ : ∃ g, fu = g + 1 := ⟨fu - 1, by omega⟩
    have c1 : ¬ Int32.ofNat o < Int32.ofNat x := by rw [i_lt (by omega) (by omega)]; omega
    have e2 := t_cohortOf (Γ := Γ) (n := n) (m := m) (I := I) (A := A) (S := S) (h := h) hs (show x < 93 by omega)
    rw [fX3_adultsOf_p9]
    simp (maxDischargeDepth := 9) only [e, c1, e2, xbind, xlet, xpure, tw_sel, tg_0, tg_4, tg_9, tg_12, tg_13, tg_14, tg_15, tg_16, tg_17, tg_18, tg_19, tg_20, tg_21, tg_24, tr_1, tr_2, tr_3, tr_5, tr_6, tr_7, tr_8, tr_10, tr_11, tr_22, tr_23, tp_0, tp_4, tp_9, tp_12, tp_13, tp_14, tp_15, tp_16, tp_17, tp_18, tp_19, tp_20, tp_21, tp_24, va_up_self, va_up_ne, va_uu, i_ofNat, i_add, i_mul, Nat.add_zero, Nat.zero_add, reduceIte, if_true, if_false, Nat.reduceEqDiff, ne_eq, not_false_eq_true, Nat.reduceEqDiff, not_true_eq_false]
    rw [ih (x + 1) fu _ (by omega) (by omega)]
    simp only [isum, Int32.add_assoc]
theorem t_adultsOf {s o a : Nat} (hs : s < 4) (ho : A 1 (zI s 1) = Int32.ofNat o) (ho' : o ≤ 12) (ha : A 1 (zI s 2) = Int32.ofNat a) (ha' : a ≤ o) : fX3_adultsOf m (Int32.ofNat s) Γ (tw m I A S h) n = some (.inl (pAdl (A 1) s a o), tw m I A S h, 0, 0) := by
  have e := t_adultsOf_p9 (Γ := Γ) (n := n) (m := m) (I := I) (A := A) (S := S) (h := h) hs ho ho' (o + 1 - a) a xFU (Int32.ofNat 0) (by omega) (by unfold xFU; omega)
  have e2 := t_of (Γ := Γ) (n := n) (m := m) (I := I) (A := A) (S := S) (h := h) hs (show 2 < 132 by omega)
  rw [ha] at e2
  simp (maxDischargeDepth := 9) only [fX3_adultsOf, e2, e, i_0add, xbind, xlet, xpure, tw_sel, tg_0, tg_4, tg_9, tg_12, tg_13, tg_14, tg_15, tg_16, tg_17, tg_18, tg_19, tg_20, tg_21, tg_24, tr_1, tr_2, tr_3, tr_5, tr_6, tr_7, tr_8, tr_10, tr_11, tr_22, tr_23, tp_0, tp_4, tp_9, tp_12, tp_13, tp_14, tp_15, tp_16, tp_17, tp_18, tp_19, tp_20, tp_21, tp_24, va_up_self, va_up_ne, va_uu, i_ofNat, i_add, i_mul, Nat.add_zero, Nat.zero_add, reduceIte, if_true, if_false, Nat.reduceEqDiff, ne_eq, not_false_eq_true, Nat.reduceEqDiff, not_true_eq_false]
  rfl
end TW1
