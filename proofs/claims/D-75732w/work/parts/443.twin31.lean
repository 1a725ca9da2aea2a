/-! part 443: the twin: growth, share -/
def pGrow (N : Nat → Int32) (s o y : Nat) : UInt64 := if pTot (pGoes s o (y - 1) N) s o = Int32.ofNat 0 then FP.dconst0 else FP.ddiv (FP.i2d (pTot (pGoes s o y N) s o)) (FP.i2d (pTot (pGoes s o (y - 1) N) s o))
def pShare (N : Nat → Int32) (s o x y : Nat) : UInt64 := if pTot (pGoes s o y N) s o = Int32.ofNat 0 then FP.dconst0 else FP.ddiv (FP.i2d (pGoes s o y N (zI s (39 + x)))) (FP.i2d (pTot (pGoes s o y N) s o))
section TW31
variable {Γ : Nat → Option Nat} {m n : Nat} {I : Nat → Int32} {S : Nat → Int64} {h : xH} {s o : Nat}
theorem t_growth_no {A : Nat → Nat → Int32} (ok : okN (A 1)) {p q : Int32} (hp : ¬ vS (A 1) p) : fX3_growth m p q Γ (tw m I A S h) n = some (.inl FP.dconst0, tw m (va_up I 0 (Int32.ofNat 1)) A S h, 0, 0) := by
  have e0 := t_noSpecies0 (Γ := Γ) (n := n) (m := m) (I := va_up I 0 (Int32.ofNat 0)) (S := S) (h := h) ok hp
  simp (maxDischargeDepth := 9) only [fX3_growth_p24, fX3_growth, xbind, xlet, xpure, tw_sel, tg_0, tg_4, tg_9, tg_12, tg_13, tg_14, tg_15, tg_16, tg_17, tg_18, tg_19, tg_20, tg_21, tg_24, tr_1, tr_2, tr_3, tr_5, tr_6, tr_7, tr_8, tr_10, tr_11, tr_22, tr_23, tp_0, tp_4, tp_9, tp_12, tp_13, tp_14, tp_15, tp_16, tp_17, tp_18, tp_19, tp_20, tp_21, tp_24, va_up_self, va_up_ne, va_uu, i_ofNat, i_add, i_mul, Nat.add_zero, Nat.zero_add, reduceIte, if_true, if_false, Nat.reduceEqDiff, ne_eq, not_false_eq_true, Nat.reduceEqDiff, not_true_eq_false, e0, i_10]
theorem t_growth2 {A : Nat → Nat → Int32} (ok : okN (A 1)) {p q : Int32} (hp : vS (A 1) p) (hq : ¬ (1 ≤ q.toInt ∧ q.toInt ≤ 50)) : fX3_growth m p q Γ (tw m I A S h) n = some (.inl FP.dconst0, tw m (va_up I 0 (Int32.ofNat 2)) A S h, 0, 0) := by
  have e0 := t_noSpecies1 (Γ := Γ) (n := n) (m := m) (I := va_up I 0 (Int32.ofNat 0)) (S := S) (h := h) ok hp
  have e1 := t_noYears0 (Γ := Γ) (n := n) (m := m) (I := va_up I 0 (Int32.ofNat 0)) (A := A) (S := S) (h := h) (p := q) (lo := 1) (hi := 50) (by omega) (by omega) hq
  simp (maxDischargeDepth := 9) only [fX3_growth_p24, fX3_growth, xbind, xlet, xpure, tw_sel, tg_0, tg_4, tg_9, tg_12, tg_13, tg_14, tg_15, tg_16, tg_17, tg_18, tg_19, tg_20, tg_21, tg_24, tr_1, tr_2, tr_3, tr_5, tr_6, tr_7, tr_8, tr_10, tr_11, tr_22, tr_23, tp_0, tp_4, tp_9, tp_12, tp_13, tp_14, tp_15, tp_16, tp_17, tp_18, tp_19, tp_20, tp_21, tp_24, va_up_self, va_up_ne, va_uu, i_ofNat, i_add, i_mul, Nat.add_zero, Nat.zero_add, reduceIte, if_true, if_false, Nat.reduceEqDiff, ne_eq, not_false_eq_true, Nat.reduceEqDiff, not_true_eq_false, e0, e1, i_10]
theorem t_growth1 {A : Nat → Nat → Int32} (ok : okN (A 1)) (hs : s < nn (A 1 0)) (ho : nn (A 1 (zI s 1)) = o) {y : Nat} (hy1 : 1 ≤ y) (hy : y ≤ 50) : ∃ X, fX3_growth m (Int32.ofNat s) (Int32.ofNat y) Γ (tw m I A S h) n = some (.inl (pGrow (A 1) s o y), tw m (va_up I 0 (Int32.ofNat 0)) (va_up A 2 X) S h, 0, 0) := by
  have h4 := ok.2.1
  obtain ⟨a1, a2, -⟩ := ok.2.2.2.2.2.2.2.2.1 s hs
  unfold nN at a1
  rw [ho] at a1 a2
  have e0 := t_noSpecies1 (Γ := Γ) (n := n) (m := m) (I := va_up I 0 (Int32.ofNat 0)) (S := S) (h := h) ok (vS_of hs h4)
  have e1 := t_noYears1 (Γ := Γ) (n := n) (m := m) (I := va_up I 0 (Int32.ofNat 0)) (A := A) (S := S) (h := h) (lo := 1) (hi := 50) hy1 hy (by omega)
  have e2 := t_totalBehind (Γ := Γ) (n := n) (m := m) (I := va_up I 0 (Int32.ofNat 0)) (A := A) (S := S) (h := h) (show s < 4 by omega) a1 a2 (show y - 1 < 1000 by omega)
  have e3 : Int32.ofNat y - Int32.ofNat 1 = Int32.ofNat (y - 1) := i_sub hy1
  unfold pGrow
  by_cases hz : pTot (pGoes s o (y - 1) (A 1)) s o = Int32.ofNat 0
  · refine ⟨pCpy (A 1) (A 2) 0 0 592, ?_⟩
    rw [hz] at e2
    simp (maxDischargeDepth := 9) only [fX3_growth_p24, fX3_growth, xbind, xlet, xpure, tw_sel, tg_0, tg_4, tg_9, tg_12, tg_13, tg_14, tg_15, tg_16, tg_17, tg_18, tg_19, tg_20, tg_21, tg_24, tr_1, tr_2, tr_3, tr_5, tr_6, tr_7, tr_8, tr_10, tr_11, tr_22, tr_23, tp_0, tp_4, tp_9, tp_12, tp_13, tp_14, tp_15, tp_16, tp_17, tp_18, tp_19, tp_20, tp_21, tp_24, va_up_self, va_up_ne, va_uu, i_ofNat, i_add, i_mul, Nat.add_zero, Nat.zero_add, reduceIte, if_true, if_false, Nat.reduceEqDiff, ne_eq, not_false_eq_true, Nat.reduceEqDiff, not_true_eq_false, e0, e1, e2, e3, hz]
  · have e4 := t_totalBehind (Γ := Γ) (n := n) (m := m) (I := va_up I 0 (Int32.ofNat 0)) (A := va_up A 2 (pCpy (A 1) (A 2) 0 0 592)) (S := S) (h := h) (show s < 4 by omega) (by rw [va_up_ne _ _ (by omega)]; exact a1) a2 (show y < 1000 by omega)
    refine ⟨pCpy (A 1) (pCpy (A 1) (A 2) 0 0 592) 0 0 592, ?_⟩
    simp (maxDischargeDepth := 9) only [xbind, xlet, xpure, tw_sel, tg_0, tg_4, tg_9, tg_12, tg_13, tg_14, tg_15, tg_16, tg_17, tg_18, tg_19, tg_20, tg_21, tg_24, tr_1, tr_2, tr_3, tr_5, tr_6, tr_7, tr_8, tr_10, tr_11, tr_22, tr_23, tp_0, tp_4, tp_9, tp_12, tp_13, tp_14, tp_15, tp_16, tp_17, tp_18, tp_19, tp_20, tp_21, tp_24, va_up_self, va_up_ne, va_uu, i_ofNat, i_add, i_mul, Nat.add_zero, Nat.zero_add, reduceIte, if_true, if_false, Nat.reduceEqDiff, ne_eq, not_false_eq_true, Nat.reduceEqDiff, not_true_eq_false] at e4
    have q1 := fun (k : xM UInt64) => x_ddiv (k := k) (dFin.i2d (pTot (pGoes s o y (A 1)) s o)).num (dNz.i2d (d_i0 hz))
    simp (maxDischargeDepth := 9) only [fX3_growth_p24, fX3_growth, xbind, xlet, xpure, tw_sel, tg_0, tg_4, tg_9, tg_12, tg_13, tg_14, tg_15, tg_16, tg_17, tg_18, tg_19, tg_20, tg_21, tg_24, tr_1, tr_2, tr_3, tr_5, tr_6, tr_7, tr_8, tr_10, tr_11, tr_22, tr_23, tp_0, tp_4, tp_9, tp_12, tp_13, tp_14, tp_15, tp_16, tp_17, tp_18, tp_19, tp_20, tp_21, tp_24, va_up_self, va_up_ne, va_uu, i_ofNat, i_add, i_mul, Nat.add_zero, Nat.zero_add, reduceIte, if_true, if_false, Nat.reduceEqDiff, ne_eq, not_false_eq_true, Nat.reduceEqDiff, not_true_eq_false, e0, e1, e2, e3, hz, e4, q1]
theorem t_share0 {A : Nat → Nat → Int32} (ok : okN (A 1)) {p q r : Int32} (hp : ¬ vA (A 1) p q) : fX3_share m p q r Γ (tw m I A S h) n = some (.inl FP.dconst0, tw m (va_up I 0 (Int32.ofNat 1)) A S h, 0, 0) := by
  have e0 := t_noAge0 (Γ := Γ) (n := n) (m := m) (I := va_up I 0 (Int32.ofNat 0)) (S := S) (h := h) ok hp
  simp (maxDischargeDepth := 9) only [fX3_share_p25, fX3_share, xbind, xlet, xpure, tw_sel, tg_0, tg_4, tg_9, tg_12, tg_13, tg_14, tg_15, tg_16, tg_17, tg_18, tg_19, tg_20, tg_21, tg_24, tr_1, tr_2, tr_3, tr_5, tr_6, tr_7, tr_8, tr_10, tr_11, tr_22, tr_23, tp_0, tp_4, tp_9, tp_12, tp_13, tp_14, tp_15, tp_16, tp_17, tp_18, tp_19, tp_20, tp_21, tp_24, va_up_self, va_up_ne, va_uu, i_ofNat, i_add, i_mul, Nat.add_zero, Nat.zero_add, reduceIte, if_true, if_false, Nat.reduceEqDiff, ne_eq, not_false_eq_true, Nat.reduceEqDiff, not_true_eq_false, e0, i_10]
theorem t_share2 {A : Nat → Nat → Int32} (ok : okN (A 1)) {x : Nat} {r : Int32} (hs : s < nn (A 1 0)) (hx : x ≤ nn (A 1 (zI s 1))) (hq : ¬ (0 ≤ r.toInt ∧ r.toInt ≤ 50)) : fX3_share m (Int32.ofNat s) (Int32.ofNat x) r Γ (tw m I A S h) n = some (.inl FP.dconst0, tw m (va_up I 0 (Int32.ofNat 2)) A S h, 0, 0) := by
  have e0 := t_noAge1 (Γ := Γ) (n := n) (m := m) (I := va_up I 0 (Int32.ofNat 0)) (S := S) (h := h) ok hs hx
  have e1 := t_noYears0 (Γ := Γ) (n := n) (m := m) (I := va_up I 0 (Int32.ofNat 0)) (A := A) (S := S) (h := h) (p := r) (lo := 0) (hi := 50) (by omega) (by omega) hq
  simp (maxDischargeDepth := 9) only [fX3_share_p25, fX3_share, xbind, xlet, xpure, tw_sel, tg_0, tg_4, tg_9, tg_12, tg_13, tg_14, tg_15, tg_16, tg_17, tg_18, tg_19, tg_20, tg_21, tg_24, tr_1, tr_2, tr_3, tr_5, tr_6, tr_7, tr_8, tr_10, tr_11, tr_22, tr_23, tp_0, tp_4, tp_9, tp_12, tp_13, tp_14, tp_15, tp_16, tp_17, tp_18, tp_19, tp_20, tp_21, tp_24, va_up_self, va_up_ne, va_uu, i_ofNat, i_add, i_mul, Nat.add_zero, Nat.zero_add, reduceIte, if_true, if_false, Nat.reduceEqDiff, ne_eq, not_false_eq_true, Nat.reduceEqDiff, not_true_eq_false, e0, e1, i_10]
theorem t_share1 {A : Nat → Nat → Int32} (ok : okN (A 1)) {x y : Nat} (hs : s < nn (A 1 0)) (hx : x ≤ nn (A 1 (zI s 1))) (ho : nn (A 1 (zI s 1)) = o) (hy : y ≤ 50) : fX3_share m (Int32.ofNat s) (Int32.ofNat x) (Int32.ofNat y) Γ (tw m I A S h) n = some (.inl (pShare (A 1) s o x y), tw m (va_up I 0 (Int32.ofNat 0)) (va_up A 2 (pCpy (A 1) (A 2) 0 0 592)) S h, 0, 0) := by
  have h4 := ok.2.1
  obtain ⟨a1, a2, -⟩ := ok.2.2.2.2.2.2.2.2.1 s hs
  unfold nN at a1
  have e0 := t_noAge1 (Γ := Γ) (n := n) (m := m) (I := va_up I 0 (Int32.ofNat 0)) (S := S) (h := h) ok hs hx
  rw [ho] at a1 a2 hx
  have hs4 : s < 4 := by omega
  have ey := t_noYears1 (Γ := Γ) (n := n) (m := m) (I := va_up I 0 (Int32.ofNat 0)) (A := A) (S := S) (h := h) (lo := 0) (hi := 50) (Nat.zero_le y) hy (by omega)
  have e1 := t_putsAside (Γ := Γ) (n := n) (m := m) (I := va_up I 0 (Int32.ofNat 0)) (A := A) (S := S) (h := h)
  have e2 := t_goes (Γ := Γ) (n := n) (m := m) (I := va_up I 0 (Int32.ofNat 0)) (A := va_up A 2 (pCpy (A 1) (A 2) 0 0 592)) (S := S) (h := h) hs4 (by rw [va_up_ne _ _ (by omega)]; exact a1) a2 (show y < 1000 by omega)
  have hb : pGoes s o y (A 1) (zI s 1) = Int32.ofNat o := by rw [pGoes_ne a2 _ _ _ (fun k h1 h2 => zI_ne (by omega))]; exact a1
  have ec := t_cohortOf (Γ := Γ) (n := n) (m := m) (I := va_up I 0 (Int32.ofNat 0)) (A := va_up (va_up A 2 (pCpy (A 1) (A 2) 0 0 592)) 1 (pGoes s o y (A 1))) (S := S) (h := h) hs4 (show x < 93 by omega)
  have e3 := t_totalOf (Γ := Γ) (n := n) (m := m) (I := va_up I 0 (Int32.ofNat 0)) (A := va_up (va_up A 2 (pCpy (A 1) (A 2) 0 0 592)) 1 (pGoes s o y (A 1))) (S := S) (h := h) hs4 (by rw [va_up_self]; exact hb) a2
  have e4 := t_takesBack (Γ := Γ) (n := n) (m := m) (I := va_up I 0 (Int32.ofNat 0)) (A := va_up (va_up A 2 (pCpy (A 1) (A 2) 0 0 592)) 1 (pGoes s o y (A 1))) (S := S) (h := h)
  have hk : pCpy (pCpy (A 1) (A 2) 0 0 592) (pGoes s o y (A 1)) 0 0 592 = A 1 := pCpy_back (fun j hj => pGoes_ne a2 _ _ _ (fun k h1 h2 => by unfold zI; omega))
  have hA : va_up (va_up A 2 (pCpy (A 1) (A 2) 0 0 592)) 1 (A 1) = va_up A 2 (pCpy (A 1) (A 2) 0 0 592) := by
    rw [va_sw _ _ _ (by omega), va_id]
  simp (maxDischargeDepth := 9) only [xbind, xlet, xpure, tw_sel, tg_0, tg_4, tg_9, tg_12, tg_13, tg_14, tg_15, tg_16, tg_17, tg_18, tg_19, tg_20, tg_21, tg_24, tr_1, tr_2, tr_3, tr_5, tr_6, tr_7, tr_8, tr_10, tr_11, tr_22, tr_23, tp_0, tp_4, tp_9, tp_12, tp_13, tp_14, tp_15, tp_16, tp_17, tp_18, tp_19, tp_20, tp_21, tp_24, va_up_self, va_up_ne, va_uu, i_ofNat, i_add, i_mul, Nat.add_zero, Nat.zero_add, reduceIte, if_true, if_false, Nat.reduceEqDiff, ne_eq, not_false_eq_true, Nat.reduceEqDiff, not_true_eq_false] at e2 e3 e4 ec
  rw [hk, hA] at e4
  unfold pShare
  by_cases hz : pTot (pGoes s o y (A 1)) s o = Int32.ofNat 0
  · rw [hz] at e3
    simp (maxDischargeDepth := 9) only [fX3_share_p25, fX3_share, xbind, xlet, xpure, tw_sel, tg_0, tg_4, tg_9, tg_12, tg_13, tg_14, tg_15, tg_16, tg_17, tg_18, tg_19, tg_20, tg_21, tg_24, tr_1, tr_2, tr_3, tr_5, tr_6, tr_7, tr_8, tr_10, tr_11, tr_22, tr_23, tp_0, tp_4, tp_9, tp_12, tp_13, tp_14, tp_15, tp_16, tp_17, tp_18, tp_19, tp_20, tp_21, tp_24, va_up_self, va_up_ne, va_uu, i_ofNat, i_add, i_mul, Nat.add_zero, Nat.zero_add, reduceIte, if_true, if_false, Nat.reduceEqDiff, ne_eq, not_false_eq_true, Nat.reduceEqDiff, not_true_eq_false, e0, ey, e1, e2, ec, e3, e4, hz]
  · have q1 := fun (k : xM UInt64) => x_ddiv (k := k) (dFin.i2d (pGoes s o y (A 1) (zI s (39 + x)))).num (dNz.i2d (d_i0 hz))
    simp (maxDischargeDepth := 9) only [fX3_share_p25, fX3_share, xbind, xlet, xpure, tw_sel, tg_0, tg_4, tg_9, tg_12, tg_13, tg_14, tg_15, tg_16, tg_17, tg_18, tg_19, tg_20, tg_21, tg_24, tr_1, tr_2, tr_3, tr_5, tr_6, tr_7, tr_8, tr_10, tr_11, tr_22, tr_23, tp_0, tp_4, tp_9, tp_12, tp_13, tp_14, tp_15, tp_16, tp_17, tp_18, tp_19, tp_20, tp_21, tp_24, va_up_self, va_up_ne, va_uu, i_ofNat, i_add, i_mul, Nat.add_zero, Nat.zero_add, reduceIte, if_true, if_false, Nat.reduceEqDiff, ne_eq, not_false_eq_true, Nat.reduceEqDiff, not_true_eq_false, e0, ey, e1, e2, ec, e3, e4, hz, q1]
end TW31
