/-! part 413: the twin: sickness, plans -/
def imin (a b : Int32) : Int32 := if b < a then b else a
def imax (a b : Int32) : Int32 := if a < b then b else a
def jmin (a b : Int64) : Int64 := if 0 < lg_cmp a b then b else a
def jmax (a b : Int64) : Int64 := if lg_cmp a b < 0 then b else a
def nn (v : Int32) : Nat := v.toNatClampNeg
theorem i_jm (a b : Int64) (Γ : Nat → Option Nat) (h : xH) (n : Nat) : fJ12_min_2 a b Γ h n = some (.inl (jmin a b), h, 0, 0) := by
  unfold fJ12_min_2 jmin
  split <;> rfl
theorem i_jx (a b : Int64) (Γ : Nat → Option Nat) (h : xH) (n : Nat) : fJ12_max_2 a b Γ h n = some (.inl (jmax a b), h, 0, 0) := by
  unfold fJ12_max_2 jmax
  split <;> rfl
theorem i_im (a b : Int32) (Γ : Nat → Option Nat) (h : xH) (n : Nat) : fJ12_min a b Γ h n = some (.inl (imin a b), h, 0, 0) := by
  unfold fJ12_min imin
  split <;> rfl
theorem i_ix (a b : Int32) (Γ : Nat → Option Nat) (h : xH) (n : Nat) : fJ12_max a b Γ h n = some (.inl (imax a b), h, 0, 0) := by
  unfold fJ12_max imax
  split <;> rfl
theorem j_dv : ¬ ((1000 : Int64) = 0) := by decide
def pGone (v th : Int32) : Int32 := (v.toInt64 * th.toInt64 / (1000 : Int64)).toInt32
/-- so many ages from x on lose thousandths; acc: how many are gone -/
def pSick (s : Nat) (th : Int32) : Nat → Nat → (Nat → Int32) → Int32 → (Nat → Int32) × Int32
  | _, 0, N, acc => (N, acc)
  | x, k + 1, N, acc => pSick s th (x + 1) k (va_up N (zI s (39 + x)) (N (zI s (39 + x)) - pGone (N (zI s (39 + x))) th)) (acc + pGone (N (zI s (39 + x))) th)
def pSickens (N : Nat → Int32) (s o x k : Nat) (th : Int32) : (Nat → Int32) × Int32 := (pLose (va_up (pSick s th x k N (Int32.ofNat 0)).1 (zI s 9) ((pSick s th x k N (Int32.ofNat 0)).1 (zI s 9) + (pSick s th x k N (Int32.ofNat 0)).2)) s o (pTot N s o), (pSick s th x k N (Int32.ofNat 0)).2)
theorem pSick_ne (s : Nat) (th : Int32) : ∀ (k x : Nat) (N : Nat → Int32) (acc : Int32) (j : Nat), (j < zI s (39 + x) ∨ zI s (39 + x + k) ≤ j) → (pSick s th x k N acc).1 j = N j := by
  intro k
  induction k with
  | zero => intro x N acc j hj; rfl
  | succ k ih =>
    intro x N acc j hj
    unfold pSick
    rw [ih (x + 1) _ _ j (by unfold zI at *; omega), va_up_ne _ _ (by unfold zI at *; omega)]
section TW3
variable {Γ : Nat → Option Nat} {m n : Nat} {I : Nat → Int32} {S : Nat → Int64} {h : xH}
theorem t_leftOf {A : Nat → Nat → Int32} {s : Nat} (hs : s < 4) : fX3_leftOf m (Int32.ofNat s) Γ (tw m I A S h) n = some (.inl (imax (Int32.ofNat 0) (A 1 (zI s 5) - A 1 (zI s 10))), tw m I A S h, 0, 0) := by
  have e1 := t_of (Γ := Γ) (n := n) (m := m) (I := I) (A := A) (S := S) (h := h) hs (show 5 < 132 by omega)
  have e2 := t_of (Γ := Γ) (n := n) (m := m) (I := I) (A := A) (S := S) (h := h) hs (show 10 < 132 by omega)
  simp (maxDischargeDepth := 9) only [fX3_leftOf, e1, e2, i_ix, xbind, xlet, xpure, tw_sel, tg_0, tg_4, tg_9, tg_12, tg_13, tg_14, tg_15, tg_16, tg_17, tg_18, tg_19, tg_20, tg_21, tg_24, tr_1, tr_2, tr_3, tr_5, tr_6, tr_7, tr_8, tr_10, tr_11, tr_22, tr_23, tp_0, tp_4, tp_9, tp_12, tp_13, tp_14, tp_15, tp_16, tp_17, tp_18, tp_19, tp_20, tp_21, tp_24, va_up_self, va_up_ne, va_uu, i_ofNat, i_add, i_mul, Nat.add_zero, Nat.zero_add, reduceIte, if_true, if_false, Nat.reduceEqDiff, ne_eq, not_false_eq_true, Nat.reduceEqDiff, not_true_eq_false]
theorem t_sickens_p13 {s o to : Nat} (hs : s < 4) (ho' : o ≤ 12) (hto : to < 13) (b th : Int32) : ∀ (k x fu : Nat) (A : Nat → Nat → Int32) (acc : Int32), A 1 (zI s 1) = Int32.ofNat o → x + k = to + 1 → k < fu →
    fX3_sickens_p13 fu m (Int32.ofNat s) (Int32.ofNat to) th b acc (Int32.ofNat x) Γ (tw m I A S h) n = some (.inl (pSick s th x k (A 1) acc).2, tw m I (va_up A 1 (pLose (va_up (pSick s th x k (A 1) acc).1 (zI s 9) ((pSick s th x k (A 1) acc).1 (zI s 9) + (pSick s th x k (A 1) acc).2)) s o b)) S h, 0, 0) := by
  intro k
  induction k with
  | zero =>
    intro x fu A acc ho hx hf
    obtain ⟨fu, rfl⟩ : ∃ g, fu = g + 1 := ⟨fu - 1, by omega⟩
    have c1 : Int32.ofNat to < Int32.ofNat x := by rw [i_lt (by omega) (by omega)]; omega
    have h2 := zI_lt hs (show 9 < 132 by omega)
    have e3 := t_losesMarks (Γ := Γ) (n := n) (m := m) (I := I) (A := va_up A 1 (va_up (A 1) (zI s 9) (A 1 (zI s 9) + acc))) (S := S) (h := h) (o := o) hs (by
      rw [va_up_self, va_up_ne _ _ (zI_ne (by omega))]
      exact ho) ho' b
    rw [fX3_sickens_p13]
    simp (maxDischargeDepth := 9) only [c1, t_at2, tl_1 h2, ts_1 h2, pSick, xbind, xlet, xpure, tw_sel, tg_0, tg_4, tg_9, tg_12, tg_13, tg_14, tg_15, tg_16, tg_17, tg_18, tg_19, tg_20, tg_21, tg_24, tr_1, tr_2, tr_3, tr_5, tr_6, tr_7, tr_8, tr_10, tr_11, tr_22, tr_23, tp_0, tp_4, tp_9, tp_12, tp_13, tp_14, tp_15, tp_16, tp_17, tp_18, tp_19, tp_20, tp_21, tp_24, va_up_self, va_up_ne, va_uu, i_ofNat, i_add, i_mul, Nat.add_zero, Nat.zero_add, reduceIte, if_true, if_false, Nat.reduceEqDiff, ne_eq, not_false_eq_true, Nat.reduceEqDiff, not_true_eq_false] at e3 ⊢
    simp (maxDischargeDepth := 9) only [e3, xbind, xlet, xpure, tw_sel, tg_0, tg_4, tg_9, tg_12, tg_13, tg_14, tg_15, tg_16, tg_17, tg_18, tg_19, tg_20, tg_21, tg_24, tr_1, tr_2, tr_3, tr_5, tr_6, tr_7, tr_8, tr_10, tr_11, tr_22, tr_23, tp_0, tp_4, tp_9, tp_12, tp_13, tp_14, tp_15, tp_16, tp_17, tp_18, tp_19, tp_20, tp_21, tp_24, va_up_self, va_up_ne, va_uu, i_ofNat, i_add, i_mul, Nat.add_zero, Nat.zero_add, reduceIte, if_true, if_false, Nat.reduceEqDiff, ne_eq, not_false_eq_true, Nat.reduceEqDiff, not_true_eq_false]
  | succ k ih =>
    intro x fu A acc ho hx hf
    obtain ⟨fu, rfl⟩ : ∃ g, fu = g + 1 := ⟨fu - 1, by omega⟩
    have c1 : ¬ Int32.ofNat to < Int32.ofNat x := by rw [i_lt (by omega) (by omega)]; omega
    have h1 := zI_lt hs (show 39 + x < 132 by omega)
    have e2 := t_cohortOf (Γ := Γ) (n := n) (m := m) (I := I) (A := A) (S := S) (h := h) hs (show x < 93 by omega)
    have e3 := ih (x + 1) fu (va_up A 1 (va_up (A 1) (zI s (39 + x)) (A 1 (zI s (39 + x)) - pGone (A 1 (zI s (39 + x))) th))) (acc + pGone (A 1 (zI s (39 + x))) th) (by
      rw [va_up_self, va_up_ne _ _ (zI_ne (by omega))]
      exact ho) (by omega) (by omega)
    rw [fX3_sickens_p13]
    simp (maxDischargeDepth := 9) only [c1, e2, t_at2, tl_1 h1, ts_1 h1, pSick, xdvJ, j_dv, pGone, xbind, xlet, xpure, tw_sel, tg_0, tg_4, tg_9, tg_12, tg_13, tg_14, tg_15, tg_16, tg_17, tg_18, tg_19, tg_20, tg_21, tg_24, tr_1, tr_2, tr_3, tr_5, tr_6, tr_7, tr_8, tr_10, tr_11, tr_22, tr_23, tp_0, tp_4, tp_9, tp_12, tp_13, tp_14, tp_15, tp_16, tp_17, tp_18, tp_19, tp_20, tp_21, tp_24, va_up_self, va_up_ne, va_uu, i_ofNat, i_add, i_mul, Nat.add_zero, Nat.zero_add, reduceIte, if_true, if_false, Nat.reduceEqDiff, ne_eq, not_false_eq_true, Nat.reduceEqDiff, not_true_eq_false] at e3 ⊢
    simp (maxDischargeDepth := 9) only [e3, xbind, xlet, xpure, tw_sel, tg_0, tg_4, tg_9, tg_12, tg_13, tg_14, tg_15, tg_16, tg_17, tg_18, tg_19, tg_20, tg_21, tg_24, tr_1, tr_2, tr_3, tr_5, tr_6, tr_7, tr_8, tr_10, tr_11, tr_22, tr_23, tp_0, tp_4, tp_9, tp_12, tp_13, tp_14, tp_15, tp_16, tp_17, tp_18, tp_19, tp_20, tp_21, tp_24, va_up_self, va_up_ne, va_uu, i_ofNat, i_add, i_mul, Nat.add_zero, Nat.zero_add, reduceIte, if_true, if_false, Nat.reduceEqDiff, ne_eq, not_false_eq_true, Nat.reduceEqDiff, not_true_eq_false]
theorem t_sickens {A : Nat → Nat → Int32} {s o x to : Nat} (hs : s < 4) (ho : A 1 (zI s 1) = Int32.ofNat o) (ho' : o ≤ 12) (hto : to < 13) (hx : x ≤ to) (th : Int32) : fX3_sickens m (Int32.ofNat s) (Int32.ofNat x) (Int32.ofNat to) th Γ (tw m I A S h) n = some (.inl (pSickens (A 1) s o x (to + 1 - x) th).2, tw m I (va_up A 1 (pSickens (A 1) s o x (to + 1 - x) th).1) S h, 0, 0) := by
  have e1 := t_totalOf (Γ := Γ) (n := n) (m := m) (I := I) (A := A) (S := S) (h := h) hs ho ho'
  have e2 := t_sickens_p13 (Γ := Γ) (n := n) (m := m) (I := I) (S := S) (h := h) hs ho' hto (pTot (A 1) s o) th (to + 1 - x) x xFU A (Int32.ofNat 0) ho (by omega) (by unfold xFU; omega)
  simp (maxDischargeDepth := 9) only [fX3_sickens, e1, e2, pSickens, xbind, xlet, xpure, tw_sel, tg_0, tg_4, tg_9, tg_12, tg_13, tg_14, tg_15, tg_16, tg_17, tg_18, tg_19, tg_20, tg_21, tg_24, tr_1, tr_2, tr_3, tr_5, tr_6, tr_7, tr_8, tr_10, tr_11, tr_22, tr_23, tp_0, tp_4, tp_9, tp_12, tp_13, tp_14, tp_15, tp_16, tp_17, tp_18, tp_19, tp_20, tp_21, tp_24, va_up_self, va_up_ne, va_uu, i_ofNat, i_add, i_mul, Nat.add_zero, Nat.zero_add, reduceIte, if_true, if_false, Nat.reduceEqDiff, ne_eq, not_false_eq_true, Nat.reduceEqDiff, not_true_eq_false]
end TW3
