/-! part 433: the twin: closingUpTo, append, speciesNamed -/
def pClU (L N : Nat → Int32) (s : Nat) (p : Int32) : Int32 := if nn (N 2) = 0 then -Int32.ofNat 1 else if Int32.ofNat (pFY N) ≤ imin p (Int32.ofNat (nn (N 1) - 1)) then pLP L N s (nn (imin p (Int32.ofNat (nn (N 1) - 1))) - pFY N) 5 else -Int32.ofNat 1
/-- byte i of a word -/
def bt (w : Int32) (i : Nat) : Int32 := (w >>> (Int32.ofNat (24 - 8 * i) &&& Int32.ofNat 31)).toInt8.toInt32.toInt8.toInt32
def pApp (T W : Nat → Int32) (t k : Nat) : Nat → Int32 := fun j => if t ≤ j ∧ j < t + k then bt (W ((j - t) / 4)) ((j - t) % 4) else T j
theorem pApp_0 {T W : Nat → Int32} {t : Nat} : pApp T W t 0 = T := by
  funext j
  unfold pApp
  rw [if_neg (by omega)]
theorem pApp_step {T W : Nat → Int32} {t k : Nat} : va_up (pApp T W t k) (t + k) (bt (W (k / 4)) (k % 4)) = pApp T W t (k + 1) := by
  funext j
  rw [va_ap]
  unfold pApp
  by_cases hj : j = t + k
  · have e : j - t = k := by omega
    rw [if_pos hj, if_pos (by omega), e]
  · rw [if_neg hj]
    by_cases hc : t ≤ j ∧ j < t + k
    · rw [if_pos hc, if_pos (by omega)]
    · rw [if_neg hc, if_neg (by omega)]
def pFive (W : Nat → Int32) (a b c d e : Int32) : Nat → Int32 := va_up (va_up (va_up (va_up (va_up W 0 a) 1 b) 2 c) 3 d) 4 e
/-- the first species from s on whose name's number is v -/
def pNd (N : Nat → Int32) (v : Int32) : Nat → Nat → Option Nat
  | _, 0 => none
  | s, k + 1 => if N (zI s 0) = v then some s else pNd N v (s + 1) k
section TW24
variable {Γ : Nat → Option Nat} {m n : Nat} {I : Nat → Int32} {A : Nat → Nat → Int32} {S : Nat → Int64} {h : xH} {s : Nat}
theorem t_closingUpTo_no (ok : okN (A 1)) {p q : Int32} (hp : ¬ vS (A 1) p) : fX3_closingUpTo m p q Γ (tw m I A S h) n = some (.inl (Int32.ofNat 0), tw m (va_up I 0 (Int32.ofNat 1)) A S h, 0, 0) := by
  have e0 := t_noSpecies0 (Γ := Γ) (n := n) (m := m) (I := va_up I 0 (Int32.ofNat 0)) (S := S) (h := h) ok hp
  simp (maxDischargeDepth := 9) only [fX3_closingUpTo_p45, fX3_closingUpTo, xbind, xlet, xpure, tw_sel, tg_0, tg_4, tg_9, tg_12, tg_13, tg_14, tg_15, tg_16, tg_17, tg_18, tg_19, tg_20, tg_21, tg_24, tr_1, tr_2, tr_3, tr_5, tr_6, tr_7, tr_8, tr_10, tr_11, tr_22, tr_23, tp_0, tp_4, tp_9, tp_12, tp_13, tp_14, tp_15, tp_16, tp_17, tp_18, tp_19, tp_20, tp_21, tp_24, va_up_self, va_up_ne, va_uu, i_ofNat, i_add, i_mul, Nat.add_zero, Nat.zero_add, reduceIte, if_true, if_false, Nat.reduceEqDiff, ne_eq, not_false_eq_true, Nat.reduceEqDiff, not_true_eq_false, e0, i_10]
theorem t_closingUpTo1 (ok : okN (A 1)) (hs : s < nn (A 1 0)) (p : Int32) : fX3_closingUpTo m (Int32.ofNat s) p Γ (tw m I A S h) n = some (.inl (pClU (A 4) (A 1) s p), tw m (va_up I 0 (Int32.ofNat 0)) A S h, 0, 0) := by
  have h4 := ok.2.1
  have hy := ok.2.2.1
  have hy9 := ok.2.2.2.1
  have hc := ok.2.2.2.2.1
  have hcy := ok.2.2.2.2.2.1
  unfold nN at hy hc
  have e0 := t_noSpecies1 (Γ := Γ) (n := n) (m := m) (I := va_up I 0 (Int32.ofNat 0)) (S := S) (h := h) ok (vS_of hs h4)
  have e3 := t_firstYear (Γ := Γ) (n := n) (m := m) (I := va_up I 0 (Int32.ofNat 0)) (A := A) (S := S) (h := h) ok
  have lit : (A 1 2 = Int32.ofNat 0) ↔ nn (A 1 2) = 0 := by rw [hc, i_eq (by omega) (by omega), ← hc]
  unfold pClU
  by_cases c0 : nn (A 1 2) = 0
  · have l0 := eq_true (lit.mpr c0)
    have c0' := eq_true c0
    simp (maxDischargeDepth := 9) only [fX3_closingUpTo_p45, fX3_closingUpTo, xbind, xlet, xpure, tw_sel, tg_0, tg_4, tg_9, tg_12, tg_13, tg_14, tg_15, tg_16, tg_17, tg_18, tg_19, tg_20, tg_21, tg_24, tr_1, tr_2, tr_3, tr_5, tr_6, tr_7, tr_8, tr_10, tr_11, tr_22, tr_23, tp_0, tp_4, tp_9, tp_12, tp_13, tp_14, tp_15, tp_16, tp_17, tp_18, tp_19, tp_20, tp_21, tp_24, va_up_self, va_up_ne, va_uu, i_ofNat, i_add, i_mul, Nat.add_zero, Nat.zero_add, reduceIte, if_true, if_false, Nat.reduceEqDiff, ne_eq, not_false_eq_true, Nat.reduceEqDiff, not_true_eq_false, e0, tl_1 (show 1 < 592 by omega), tl_1 (show 2 < 592 by omega), i_im, l0, c0']
  · have l0 : ¬ (A 1 2 = Int32.ofNat 0) := fun q => c0 (lit.mp q)
    have m1 : A 1 1 - Int32.ofNat 1 = Int32.ofNat (nn (A 1 1) - 1) := by
      have q : Int32.ofNat (nn (A 1 1)) - Int32.ofNat 1 = Int32.ofNat (nn (A 1 1) - 1) := i_sub (by omega)
      rw [← hy] at q
      exact q
    by_cases c1 : Int32.ofNat (pFY (A 1)) ≤ imin p (Int32.ofNat (nn (A 1 1) - 1))
    · have hfy : pFY (A 1) < 2147483648 := by unfold pFY; omega
      have hu0 : 0 ≤ (imin p (Int32.ofNat (nn (A 1 1) - 1))).toInt := by
        have := Int32.le_iff_toInt_le.mp c1
        rw [i_toInt hfy] at this
        omega
      have hup := i_pos hu0
      have hun := i_nn hu0
      have hub : (imin p (Int32.ofNat (nn (A 1 1) - 1))).toInt ≤ ((nn (A 1 1) - 1 : Nat) : Int) := by
        unfold imin
        split
        · rw [i_toInt (by omega)]; omega
        · rename_i hc2
          have := Int32.le_iff_toInt_le.mp (Int32.not_lt.mp hc2)
          rw [i_toInt (by omega)] at this
          exact this
      have hfu : pFY (A 1) ≤ nn (imin p (Int32.ofNat (nn (A 1 1) - 1))) := by
        have := Int32.le_iff_toInt_le.mp c1
        rw [i_toInt hfy] at this
        omega
      have m2 : imin p (Int32.ofNat (nn (A 1 1) - 1)) - Int32.ofNat (pFY (A 1)) = Int32.ofNat (nn (imin p (Int32.ofNat (nn (A 1 1) - 1))) - pFY (A 1)) := by
        have q : Int32.ofNat (nn (imin p (Int32.ofNat (nn (A 1 1) - 1)))) - Int32.ofNat (pFY (A 1)) = Int32.ofNat (nn (imin p (Int32.ofNat (nn (A 1 1) - 1))) - pFY (A 1)) := i_sub hfu
        rw [← hup] at q
        exact q
      have e4 := t_ledgerPart (Γ := Γ) (n := n) (m := m) (I := va_up I 0 (Int32.ofNat 0)) (A := A) (S := S) (h := h) ok (s := s) (k := nn (imin p (Int32.ofNat (nn (A 1 1) - 1))) - pFY (A 1)) (w := 5) hs (by unfold pFY at *; omega) (by omega)
      simp (maxDischargeDepth := 9) only [fX3_closingUpTo_p45, fX3_closingUpTo, xbind, xlet, xpure, tw_sel, tg_0, tg_4, tg_9, tg_12, tg_13, tg_14, tg_15, tg_16, tg_17, tg_18, tg_19, tg_20, tg_21, tg_24, tr_1, tr_2, tr_3, tr_5, tr_6, tr_7, tr_8, tr_10, tr_11, tr_22, tr_23, tp_0, tp_4, tp_9, tp_12, tp_13, tp_14, tp_15, tp_16, tp_17, tp_18, tp_19, tp_20, tp_21, tp_24, va_up_self, va_up_ne, va_uu, i_ofNat, i_add, i_mul, Nat.add_zero, Nat.zero_add, reduceIte, if_true, if_false, Nat.reduceEqDiff, ne_eq, not_false_eq_true, Nat.reduceEqDiff, not_true_eq_false, e0, tl_1 (show 1 < 592 by omega), tl_1 (show 2 < 592 by omega), m1, i_im, l0, c0, e3, c1, m2, e4]
    · simp (maxDischargeDepth := 9) only [fX3_closingUpTo_p45, fX3_closingUpTo, xbind, xlet, xpure, tw_sel, tg_0, tg_4, tg_9, tg_12, tg_13, tg_14, tg_15, tg_16, tg_17, tg_18, tg_19, tg_20, tg_21, tg_24, tr_1, tr_2, tr_3, tr_5, tr_6, tr_7, tr_8, tr_10, tr_11, tr_22, tr_23, tp_0, tp_4, tp_9, tp_12, tp_13, tp_14, tp_15, tp_16, tp_17, tp_18, tp_19, tp_20, tp_21, tp_24, va_up_self, va_up_ne, va_uu, i_ofNat, i_add, i_mul, Nat.add_zero, Nat.zero_add, reduceIte, if_true, if_false, Nat.reduceEqDiff, ne_eq, not_false_eq_true, Nat.reduceEqDiff, not_true_eq_false, e0, tl_1 (show 1 < 592 by omega), tl_1 (show 2 < 592 by omega), m1, i_im, l0, c0, e3, c1]
theorem t_append_p60 {t : Nat} (ht : I 12 = Int32.ofNat t) (ht' : t + 20 ≤ 900) : ∀ (r k fu : Nat), k + r = 20 → r < fu → fX3_append_p60 fu m (Int32.ofNat k) Γ (tw m I (va_up A 8 (pApp (A 8) (A 9) t k)) S h) n = some (.inl (Int32.ofNat (t + 20)), tw m (va_up I 12 (Int32.ofNat (t + 20))) (va_up A 8 (pApp (A 8) (A 9) t 20)) S h, 0, 0) := by
  intro r
  induction r with
  | zero =>
    intro k fu hk hf
    obtain ⟨fu, rfl⟩ : ∃ g, fu = g + 1 := ⟨fu - 1, by omega⟩
    have hk' : k = 20 := by omega
    subst hk'
    have c1 : Int32.ofNat 20 ≤ Int32.ofNat 20 := by decide
    rw [fX3_append_p60]
    simp (maxDischargeDepth := 9) only [xbind, xlet, xpure, tw_sel, tg_0, tg_4, tg_9, tg_12, tg_13, tg_14, tg_15, tg_16, tg_17, tg_18, tg_19, tg_20, tg_21, tg_24, tr_1, tr_2, tr_3, tr_5, tr_6, tr_7, tr_8, tr_10, tr_11, tr_22, tr_23, tp_0, tp_4, tp_9, tp_12, tp_13, tp_14, tp_15, tp_16, tp_17, tp_18, tp_19, tp_20, tp_21, tp_24, va_up_self, va_up_ne, va_uu, i_ofNat, i_add, i_mul, Nat.add_zero, Nat.zero_add, reduceIte, if_true, if_false, Nat.reduceEqDiff, ne_eq, not_false_eq_true, Nat.reduceEqDiff, not_true_eq_false, c1, ht]
  | succ r ih =>
    intro k fu hk hf
    obtain ⟨fu, rfl⟩ : ∃ g, fu = g + 1 := ⟨fu - 1, by omega⟩
    have c1 : ¬ Int32.ofNat 20 ≤ Int32.ofNat k := by rw [i_le (by omega) (by omega)]; omega
    have z : ¬ (Int32.ofNat 4 = Int32.ofNat 0) := by decide
    have r2 : Int32.ofNat k / Int32.ofNat 4 = Int32.ofNat (k / 4) := i_div (by omega) (by omega)
    have r1 : Int32.ofNat k - Int32.ofNat (k / 4 * 4) = Int32.ofNat (k % 4) := i_rem2
    have hm : k % 4 < 4 := Nat.mod_lt k (by omega)
    have r3 : Int32.ofNat 24 - Int32.ofNat (8 * (k % 4)) = Int32.ofNat (24 - 8 * (k % 4)) := i_sub (by omega)
    have e := ih (k + 1) fu (by omega) (by omega)
    have hst := pApp_step (T := A 8) (W := A 9) (t := t) (k := k)
    unfold bt at hst
    rw [fX3_append_p60]
    simp (maxDischargeDepth := 9) only [xbind, xlet, xpure, tw_sel, tg_0, tg_4, tg_9, tg_12, tg_13, tg_14, tg_15, tg_16, tg_17, tg_18, tg_19, tg_20, tg_21, tg_24, tr_1, tr_2, tr_3, tr_5, tr_6, tr_7, tr_8, tr_10, tr_11, tr_22, tr_23, tp_0, tp_4, tp_9, tp_12, tp_13, tp_14, tp_15, tp_16, tp_17, tp_18, tp_19, tp_20, tp_21, tp_24, va_up_self, va_up_ne, va_uu, i_ofNat, i_add, i_mul, Nat.add_zero, Nat.zero_add, reduceIte, if_true, if_false, Nat.reduceEqDiff, ne_eq, not_false_eq_true, Nat.reduceEqDiff, not_true_eq_false, c1, ht, xdv, z, r2, r1, r3, tl_9 (show k / 4 < 5 by omega), ts_8 (show t + k < 900 by omega), hst, e]
theorem t_append1 {t : Nat} (ht : I 12 = Int32.ofNat t) (ht' : t + 20 ≤ 900) (a b c d e : Int32) : fX3_append m a b c d e Γ (tw m I A S h) n = some (.inl (Int32.ofNat (t + 20)), tw m (va_up (va_up I 0 (Int32.ofNat 0)) 12 (Int32.ofNat (t + 20))) (va_up (va_up A 9 (pFive (A 9) a b c d e)) 8 (pApp (A 8) (pFive (A 9) a b c d e) t 20)) S h, 0, 0) := by
  have c1 : Int32.ofNat (t + 20) ≤ Int32.ofNat 900 := by rw [i_le (by omega) (by omega)]; omega
  have e1 := t_append_p60 (Γ := Γ) (n := n) (m := m) (I := va_up I 0 (Int32.ofNat 0)) (A := va_up A 9 (pFive (A 9) a b c d e)) (S := S) (h := h) (t := t) (by rw [va_up_ne _ _ (by omega)]; exact ht) ht' 20 0 xFU (by omega) (by unfold xFU; omega)
  rw [pApp_0, va_id] at e1
  have h9 : va_up (va_up (va_up (va_up (va_up (A 9) 0 a) 1 b) 2 c) 3 d) 4 e = pFive (A 9) a b c d e := rfl
  simp (maxDischargeDepth := 9) only [xbind, xlet, xpure, tw_sel, tg_0, tg_4, tg_9, tg_12, tg_13, tg_14, tg_15, tg_16, tg_17, tg_18, tg_19, tg_20, tg_21, tg_24, tr_1, tr_2, tr_3, tr_5, tr_6, tr_7, tr_8, tr_10, tr_11, tr_22, tr_23, tp_0, tp_4, tp_9, tp_12, tp_13, tp_14, tp_15, tp_16, tp_17, tp_18, tp_19, tp_20, tp_21, tp_24, va_up_self, va_up_ne, va_uu, i_ofNat, i_add, i_mul, Nat.add_zero, Nat.zero_add, reduceIte, if_true, if_false, Nat.reduceEqDiff, ne_eq, not_false_eq_true, Nat.reduceEqDiff, not_true_eq_false] at e1
  simp (maxDischargeDepth := 9) only [fX3_append, xbind, xlet, xpure, tw_sel, tg_0, tg_4, tg_9, tg_12, tg_13, tg_14, tg_15, tg_16, tg_17, tg_18, tg_19, tg_20, tg_21, tg_24, tr_1, tr_2, tr_3, tr_5, tr_6, tr_7, tr_8, tr_10, tr_11, tr_22, tr_23, tp_0, tp_4, tp_9, tp_12, tp_13, tp_14, tp_15, tp_16, tp_17, tp_18, tp_19, tp_20, tp_21, tp_24, va_up_self, va_up_ne, va_uu, i_ofNat, i_add, i_mul, Nat.add_zero, Nat.zero_add, reduceIte, if_true, if_false, Nat.reduceEqDiff, ne_eq, not_false_eq_true, Nat.reduceEqDiff, not_true_eq_false, ht, c1, ts_9 (show 0 < 5 by omega), ts_9 (show 1 < 5 by omega), ts_9 (show 2 < 5 by omega), ts_9 (show 3 < 5 by omega), ts_9 (show 4 < 5 by omega), h9, e1]
theorem t_append0 {t : Nat} (ht : I 12 = Int32.ofNat t) (h9 : t ≤ 900) (ht' : ¬ t + 20 ≤ 900) (a b c d e : Int32) : fX3_append m a b c d e Γ (tw m I A S h) n = some (.inl (-Int32.ofNat 1), tw m (va_up I 0 (Int32.ofNat 0)) A S h, 0, 0) := by
  have c1 : ¬ Int32.ofNat (t + 20) ≤ Int32.ofNat 900 := by rw [i_le (by omega) (by omega)]; omega
  simp (maxDischargeDepth := 9) only [fX3_append, xbind, xlet, xpure, tw_sel, tg_0, tg_4, tg_9, tg_12, tg_13, tg_14, tg_15, tg_16, tg_17, tg_18, tg_19, tg_20, tg_21, tg_24, tr_1, tr_2, tr_3, tr_5, tr_6, tr_7, tr_8, tr_10, tr_11, tr_22, tr_23, tp_0, tp_4, tp_9, tp_12, tp_13, tp_14, tp_15, tp_16, tp_17, tp_18, tp_19, tp_20, tp_21, tp_24, va_up_self, va_up_ne, va_uu, i_ofNat, i_add, i_mul, Nat.add_zero, Nat.zero_add, reduceIte, if_true, if_false, Nat.reduceEqDiff, ne_eq, not_false_eq_true, Nat.reduceEqDiff, not_true_eq_false, ht, c1]
theorem t_named_p2 (ok : okN (A 1)) (v : Int32) : ∀ (k s fu : Nat), s + k = nn (A 1 0) → k < fu → fX3_named_p2 fu m v (Int32.ofNat s) Γ (tw m I A S h) n = some (.inl (o2i (pNd (A 1) v s k)), tw m I A S h, 0, 0) := by
  have h0 := ok.1
  have h4 := ok.2.1
  unfold nN at h0
  intro k
  induction k with
  | zero =>
    intro s fu hs hf
    obtain ⟨fu, rfl⟩ : ∃ g, fu = g + 1 := ⟨fu - 1, by omega⟩
    have c1 : A 1 0 ≤ Int32.ofNat s := by rw [h0, i_le (by omega) (by omega)]; omega
    rw [fX3_named_p2]
    simp (maxDischargeDepth := 9) only [xbind, xlet, xpure, tw_sel, tg_0, tg_4, tg_9, tg_12, tg_13, tg_14, tg_15, tg_16, tg_17, tg_18, tg_19, tg_20, tg_21, tg_24, tr_1, tr_2, tr_3, tr_5, tr_6, tr_7, tr_8, tr_10, tr_11, tr_22, tr_23, tp_0, tp_4, tp_9, tp_12, tp_13, tp_14, tp_15, tp_16, tp_17, tp_18, tp_19, tp_20, tp_21, tp_24, va_up_self, va_up_ne, va_uu, i_ofNat, i_add, i_mul, Nat.add_zero, Nat.zero_add, reduceIte, if_true, if_false, Nat.reduceEqDiff, ne_eq, not_false_eq_true, Nat.reduceEqDiff, not_true_eq_false, tl_1 (show 0 < 592 by omega), c1, pNd, o2i]
  | succ k ih =>
    intro s fu hs hf
    obtain ⟨fu, rfl⟩ : ∃ g, fu = g + 1 := ⟨fu - 1, by omega⟩
    have c1 : ¬ A 1 0 ≤ Int32.ofNat s := by rw [h0, i_le (by omega) (by omega)]; omega
    have e1 := t_of (Γ := Γ) (n := n) (m := m) (I := I) (A := A) (S := S) (h := h) (s := s) (by omega) (show 0 < 132 by omega)
    have e2 := ih (s + 1) fu (by omega) (by omega)
    rw [fX3_named_p2]
    by_cases c2 : A 1 (zI s 0) = v
    · have hp : pNd (A 1) v s (k + 1) = some s := by unfold pNd; exact if_pos c2
      simp (maxDischargeDepth := 9) only [xbind, xlet, xpure, tw_sel, tg_0, tg_4, tg_9, tg_12, tg_13, tg_14, tg_15, tg_16, tg_17, tg_18, tg_19, tg_20, tg_21, tg_24, tr_1, tr_2, tr_3, tr_5, tr_6, tr_7, tr_8, tr_10, tr_11, tr_22, tr_23, tp_0, tp_4, tp_9, tp_12, tp_13, tp_14, tp_15, tp_16, tp_17, tp_18, tp_19, tp_20, tp_21, tp_24, va_up_self, va_up_ne, va_uu, i_ofNat, i_add, i_mul, Nat.add_zero, Nat.zero_add, reduceIte, if_true, if_false, Nat.reduceEqDiff, ne_eq, not_false_eq_true, Nat.reduceEqDiff, not_true_eq_false, tl_1 (show 0 < 592 by omega), c1, e1, eq_true c2, hp, o2i]
    · have hp : pNd (A 1) v s (k + 1) = pNd (A 1) v (s + 1) k := by
        conv => lhs; unfold pNd
        exact if_neg c2
      simp (maxDischargeDepth := 9) only [xbind, xlet, xpure, tw_sel, tg_0, tg_4, tg_9, tg_12, tg_13, tg_14, tg_15, tg_16, tg_17, tg_18, tg_19, tg_20, tg_21, tg_24, tr_1, tr_2, tr_3, tr_5, tr_6, tr_7, tr_8, tr_10, tr_11, tr_22, tr_23, tp_0, tp_4, tp_9, tp_12, tp_13, tp_14, tp_15, tp_16, tp_17, tp_18, tp_19, tp_20, tp_21, tp_24, va_up_self, va_up_ne, va_uu, i_ofNat, i_add, i_mul, Nat.add_zero, Nat.zero_add, reduceIte, if_true, if_false, Nat.reduceEqDiff, ne_eq, not_false_eq_true, Nat.reduceEqDiff, not_true_eq_false, tl_1 (show 0 < 592 by omega), c1, e1, c2, e2, hp]
theorem t_named (ok : okN (A 1)) (v : Int32) : fX3_named m v Γ (tw m I A S h) n = some (.inl (o2i (pNd (A 1) v 0 (nn (A 1 0)))), tw m I A S h, 0, 0) := by
  have e := t_named_p2 (Γ := Γ) (n := n) (m := m) (I := I) (A := A) (S := S) (h := h) ok v (nn (A 1 0)) 0 xFU (by omega) (by have := ok.2.1; unfold xFU; omega)
  simp (maxDischargeDepth := 9) only [fX3_named, xbind, xlet, xpure, tw_sel, tg_0, tg_4, tg_9, tg_12, tg_13, tg_14, tg_15, tg_16, tg_17, tg_18, tg_19, tg_20, tg_21, tg_24, tr_1, tr_2, tr_3, tr_5, tr_6, tr_7, tr_8, tr_10, tr_11, tr_22, tr_23, tp_0, tp_4, tp_9, tp_12, tp_13, tp_14, tp_15, tp_16, tp_17, tp_18, tp_19, tp_20, tp_21, tp_24, va_up_self, va_up_ne, va_uu, i_ofNat, i_add, i_mul, Nat.add_zero, Nat.zero_add, reduceIte, if_true, if_false, Nat.reduceEqDiff, ne_eq, not_false_eq_true, Nat.reduceEqDiff, not_true_eq_false, e]
end TW24
