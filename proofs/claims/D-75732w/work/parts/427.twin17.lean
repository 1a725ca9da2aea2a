/-! part 427: the twin: sightings, planned, closingUpTo -/
def pSg (N : Nat → Int32) (s k w : Nat) : Int32 := N (zI s (52 + 4 * k + w))
def pEst (N : Nat → Int32) (s k : Nat) : Int64 := ((((pSg N s k 1).toInt64 + (1 : Int64)) * ((pSg N s k 2).toInt64 + (1 : Int64))) / ((pSg N s k 3).toInt64 + (1 : Int64))) - (1 : Int64)
/-- sightings above x are moved by one -/
def pS4 (N : Nat → Int32) (s x : Nat) : Nat → Int32 := fun j => if zI s (52 + x) < j ∧ j ≤ zI s 131 then N (j - 4) else N j
theorem pS4_79 {N : Nat → Int32} {s : Nat} : pS4 N s 79 = N := by
  funext j
  unfold pS4
  rw [if_neg (by unfold zI; omega)]
theorem pS4_step {N : Nat → Int32} {s x : Nat} (hx : 4 ≤ x) (hx2 : x ≤ 79) : va_up (pS4 N s x) (zI s (52 + x)) (pS4 N s x (zI s (52 + x - 4))) = pS4 N s (x - 1) := by
  funext j
  have e : pS4 N s x (zI s (52 + x - 4)) = N (zI s (52 + x) - 4) := by
    unfold pS4
    rw [if_neg (by unfold zI; omega)]
    congr 1
    unfold zI; omega
  rw [va_ap, e]
  by_cases hj : j = zI s (52 + x)
  · subst hj
    rw [if_pos rfl]
    unfold pS4
    rw [if_pos (by unfold zI; omega)]
  · rw [if_neg hj]
    unfold pS4
    by_cases hc : zI s (52 + x) < j ∧ j ≤ zI s 131
    · rw [if_pos hc, if_pos (by unfold zI at *; omega)]
    · rw [if_neg hc, if_neg (by unfold zI at *; omega)]
def pSv0 (N : Nat → Int32) (s : Nat) (a b c : Int32) : Nat → Int32 := va_up (va_up (va_up (va_up (pS4 N s 3) (zI s 52) (pS4 N s 3 1)) (zI s 53) a) (zI s 54) b) (zI s 55) c
/-- a survey is noted: so many marked ones, seen, seen again -/
def pSurvey (N : Nat → Int32) (s : Nat) (a b c : Int32) : Nat → Int32 := pSv0 (if Int32.ofNat 20 ≤ N (zI s 12) then N else va_up N (zI s 12) (N (zI s 12) + Int32.ofNat 1)) s a b c
section TW18
variable {Γ : Nat → Option Nat} {m n : Nat} {I : Nat → Int32} {A : Nat → Nat → Int32} {S : Nat → Int64} {h : xH} {d s : Nat}
theorem t_sightingOf {k w : Nat} (hs : s < 4) (hk : k < 20) (hw : w < 4) : fX3_sightingOf m (Int32.ofNat s) (Int32.ofNat k) (Int32.ofNat w) Γ (tw m I A S h) n = some (.inl (pSg (A 1) s k w), tw m I A S h, 0, 0) := by
  have e := t_of (Γ := Γ) (n := n) (m := m) (I := I) (A := A) (S := S) (h := h) hs (show 52 + 4 * k + w < 132 by omega)
  simp (maxDischargeDepth := 9) only [fX3_sightingOf, xbind, xlet, xpure, tw_sel, tg_0, tg_4, tg_9, tg_12, tg_13, tg_14, tg_15, tg_16, tg_17, tg_18, tg_19, tg_20, tg_21, tg_24, tr_1, tr_2, tr_3, tr_5, tr_6, tr_7, tr_8, tr_10, tr_11, tr_22, tr_23, tp_0, tp_4, tp_9, tp_12, tp_13, tp_14, tp_15, tp_16, tp_17, tp_18, tp_19, tp_20, tp_21, tp_24, va_up_self, va_up_ne, va_uu, i_ofNat, i_add, i_mul, Nat.add_zero, Nat.zero_add, reduceIte, if_true, if_false, Nat.reduceEqDiff, ne_eq, not_false_eq_true, Nat.reduceEqDiff, not_true_eq_false, e, pSg]
theorem t_isSighting1 {g k : Nat} (hs : s < 4) (hg : A 1 (zI s 12) = Int32.ofNat g) (hg20 : g ≤ 20) (hk : k < g) : fX3_isSighting m (Int32.ofNat s) (Int32.ofNat k) Γ (tw m I A S h) n = some (.inl (Int32.ofNat 1), tw m I A S h, 0, 0) := by
  have e := t_of (Γ := Γ) (n := n) (m := m) (I := I) (A := A) (S := S) (h := h) hs (show 12 < 132 by omega)
  rw [hg] at e
  have e1 := t_in1 (Γ := Γ) (h := tw m I A S h) (n := n) (a := (Int32.ofNat k).toInt64) (b := 0) (c := (Int32.ofNat g - Int32.ofNat 1).toInt64) (by rw [Int32.toInt_toInt64, i_toInt (by omega)]; exact Int.natCast_nonneg k) (by rw [i_m1i (by omega), Int32.toInt_toInt64, i_toInt (by omega)]; omega)
  simp (maxDischargeDepth := 9) only [fX3_isSighting, xbind, xlet, xpure, tw_sel, tg_0, tg_4, tg_9, tg_12, tg_13, tg_14, tg_15, tg_16, tg_17, tg_18, tg_19, tg_20, tg_21, tg_24, tr_1, tr_2, tr_3, tr_5, tr_6, tr_7, tr_8, tr_10, tr_11, tr_22, tr_23, tp_0, tp_4, tp_9, tp_12, tp_13, tp_14, tp_15, tp_16, tp_17, tp_18, tp_19, tp_20, tp_21, tp_24, va_up_self, va_up_ne, va_uu, i_ofNat, i_add, i_mul, Nat.add_zero, Nat.zero_add, reduceIte, if_true, if_false, Nat.reduceEqDiff, ne_eq, not_false_eq_true, Nat.reduceEqDiff, not_true_eq_false, e, e1, x_ret1]
theorem t_isSighting0 {g : Nat} {p : Int32} (hs : s < 4) (hg : A 1 (zI s 12) = Int32.ofNat g) (hg20 : g ≤ 20) (hk : ¬ (0 ≤ p.toInt ∧ p.toInt < g)) : fX3_isSighting m (Int32.ofNat s) p Γ (tw m I A S h) n = some (.inl (Int32.ofNat 0), tw m I A S h, 0, 0) := by
  have e := t_of (Γ := Γ) (n := n) (m := m) (I := I) (A := A) (S := S) (h := h) hs (show 12 < 132 by omega)
  rw [hg] at e
  have e1 := t_in0 (Γ := Γ) (h := tw m I A S h) (n := n) (a := p.toInt64) (b := 0) (c := (Int32.ofNat g - Int32.ofNat 1).toInt64) (by
    rw [i_m1i (by omega), Int32.toInt_toInt64]
    rintro ⟨q1, q2⟩
    have q1 : 0 ≤ p.toInt := q1
    exact hk ⟨q1, by omega⟩)
  simp (maxDischargeDepth := 9) only [fX3_isSighting, xbind, xlet, xpure, tw_sel, tg_0, tg_4, tg_9, tg_12, tg_13, tg_14, tg_15, tg_16, tg_17, tg_18, tg_19, tg_20, tg_21, tg_24, tr_1, tr_2, tr_3, tr_5, tr_6, tr_7, tr_8, tr_10, tr_11, tr_22, tr_23, tp_0, tp_4, tp_9, tp_12, tp_13, tp_14, tp_15, tp_16, tp_17, tp_18, tp_19, tp_20, tp_21, tp_24, va_up_self, va_up_ne, va_uu, i_ofNat, i_add, i_mul, Nat.add_zero, Nat.zero_add, reduceIte, if_true, if_false, Nat.reduceEqDiff, ne_eq, not_false_eq_true, Nat.reduceEqDiff, not_true_eq_false, e, e1, x_ret0]
theorem t_estimateOf {k : Nat} (hs : s < 4) (hk : k < 20) (hq : ¬ (pSg (A 1) s k 3).toInt64 + (1 : Int64) = 0) : fX3_estimateOf m (Int32.ofNat s) (Int32.ofNat k) Γ (tw m I A S h) n = some (.inl (pEst (A 1) s k), tw m I A S h, 0, 0) := by
  have e := fun (w : Nat) (hw : w < 4) => t_sightingOf (Γ := Γ) (n := n) (m := m) (I := I) (A := A) (S := S) (h := h) hs hk hw
  simp (maxDischargeDepth := 9) only [fX3_estimateOf, xbind, xlet, xpure, tw_sel, tg_0, tg_4, tg_9, tg_12, tg_13, tg_14, tg_15, tg_16, tg_17, tg_18, tg_19, tg_20, tg_21, tg_24, tr_1, tr_2, tr_3, tr_5, tr_6, tr_7, tr_8, tr_10, tr_11, tr_22, tr_23, tp_0, tp_4, tp_9, tp_12, tp_13, tp_14, tp_15, tp_16, tp_17, tp_18, tp_19, tp_20, tp_21, tp_24, va_up_self, va_up_ne, va_uu, i_ofNat, i_add, i_mul, Nat.add_zero, Nat.zero_add, reduceIte, if_true, if_false, Nat.reduceEqDiff, ne_eq, not_false_eq_true, Nat.reduceEqDiff, not_true_eq_false, e 1 (by omega), e 2 (by omega), e 3 (by omega), xdvJ, hq, pEst]
theorem t_sighting_no (ok : okN (A 1)) {p q r : Int32} (hp : ¬ vS (A 1) p) : fX3_sighting m p q r Γ (tw m I A S h) n = some (.inl (Int32.ofNat 0), tw m (va_up I 0 (Int32.ofNat 1)) A S h, 0, 0) := by
  have e0 := t_noSpecies0 (Γ := Γ) (n := n) (m := m) (I := va_up I 0 (Int32.ofNat 0)) (S := S) (h := h) ok hp
  simp (maxDischargeDepth := 9) only [fX3_sighting_p31, fX3_sighting, xbind, xlet, xpure, tw_sel, tg_0, tg_4, tg_9, tg_12, tg_13, tg_14, tg_15, tg_16, tg_17, tg_18, tg_19, tg_20, tg_21, tg_24, tr_1, tr_2, tr_3, tr_5, tr_6, tr_7, tr_8, tr_10, tr_11, tr_22, tr_23, tp_0, tp_4, tp_9, tp_12, tp_13, tp_14, tp_15, tp_16, tp_17, tp_18, tp_19, tp_20, tp_21, tp_24, va_up_self, va_up_ne, va_uu, i_ofNat, i_add, i_mul, Nat.add_zero, Nat.zero_add, reduceIte, if_true, if_false, Nat.reduceEqDiff, ne_eq, not_false_eq_true, Nat.reduceEqDiff, not_true_eq_false, e0, i_10]
theorem t_sighting2 (ok : okN (A 1)) {p q r : Int32} (hp : vS (A 1) p) (hr : ¬ (0 ≤ r.toInt ∧ r.toInt ≤ 3)) : fX3_sighting m p q r Γ (tw m I A S h) n = some (.inl (Int32.ofNat 0), tw m (va_up I 0 (Int32.ofNat 2)) A S h, 0, 0) := by
  have e0 := t_noSpecies1 (Γ := Γ) (n := n) (m := m) (I := va_up I 0 (Int32.ofNat 0)) (S := S) (h := h) ok hp
  have e1 := t_in0 (Γ := Γ) (h := tw m (va_up I 0 (Int32.ofNat 0)) A S h) (n := n) (a := r.toInt64) (b := 0) (c := 3) (by rw [Int32.toInt_toInt64]; exact hr)
  simp (maxDischargeDepth := 9) only [fX3_sighting_p31, fX3_sighting, xbind, xlet, xpure, tw_sel, tg_0, tg_4, tg_9, tg_12, tg_13, tg_14, tg_15, tg_16, tg_17, tg_18, tg_19, tg_20, tg_21, tg_24, tr_1, tr_2, tr_3, tr_5, tr_6, tr_7, tr_8, tr_10, tr_11, tr_22, tr_23, tp_0, tp_4, tp_9, tp_12, tp_13, tp_14, tp_15, tp_16, tp_17, tp_18, tp_19, tp_20, tp_21, tp_24, va_up_self, va_up_ne, va_uu, i_ofNat, i_add, i_mul, Nat.add_zero, Nat.zero_add, reduceIte, if_true, if_false, Nat.reduceEqDiff, ne_eq, not_false_eq_true, Nat.reduceEqDiff, not_true_eq_false, e0, e1, i_10, t_throws1]
theorem t_sighting1 (ok : okN (A 1)) (hs : s < nn (A 1 0)) {g k w : Nat} (hg : A 1 (zI s 12) = Int32.ofNat g) (hg20 : g ≤ 20) (hw : w ≤ 3) (hk : k < g) : fX3_sighting m (Int32.ofNat s) (Int32.ofNat k) (Int32.ofNat w) Γ (tw m I A S h) n = some (.inl (pSg (A 1) s k w), tw m (va_up I 0 (Int32.ofNat 0)) A S h, 0, 0) := by
  have h4 := ok.2.1
  have e0 := t_noSpecies1 (Γ := Γ) (n := n) (m := m) (I := va_up I 0 (Int32.ofNat 0)) (S := S) (h := h) ok (vS_of hs h4)
  have e1 := t_in1 (Γ := Γ) (h := tw m (va_up I 0 (Int32.ofNat 0)) A S h) (n := n) (a := (Int32.ofNat w).toInt64) (b := 0) (c := 3) (by rw [Int32.toInt_toInt64, i_toInt (by omega)]; exact Int.natCast_nonneg w) (by rw [Int32.toInt_toInt64, i_toInt (by omega)]; show (w : Int) ≤ 3; omega)
  have e2 := t_isSighting1 (Γ := Γ) (n := n) (m := m) (I := va_up I 0 (Int32.ofNat 0)) (A := A) (S := S) (h := h) (show s < 4 by omega) hg hg20 hk
  have e3 := t_sightingOf (Γ := Γ) (n := n) (m := m) (I := va_up I 0 (Int32.ofNat 0)) (A := A) (S := S) (h := h) (show s < 4 by omega) (show k < 20 by omega) (show w < 4 by omega)
  simp (maxDischargeDepth := 9) only [fX3_sighting_p31, fX3_sighting, xbind, xlet, xpure, tw_sel, tg_0, tg_4, tg_9, tg_12, tg_13, tg_14, tg_15, tg_16, tg_17, tg_18, tg_19, tg_20, tg_21, tg_24, tr_1, tr_2, tr_3, tr_5, tr_6, tr_7, tr_8, tr_10, tr_11, tr_22, tr_23, tp_0, tp_4, tp_9, tp_12, tp_13, tp_14, tp_15, tp_16, tp_17, tp_18, tp_19, tp_20, tp_21, tp_24, va_up_self, va_up_ne, va_uu, i_ofNat, i_add, i_mul, Nat.add_zero, Nat.zero_add, reduceIte, if_true, if_false, Nat.reduceEqDiff, ne_eq, not_false_eq_true, Nat.reduceEqDiff, not_true_eq_false, e0, e1, e2, e3, i_10, t_throws0]
theorem t_sighting3 (ok : okN (A 1)) (hs : s < nn (A 1 0)) {g : Nat} {q r : Int32} (hg : A 1 (zI s 12) = Int32.ofNat g) (hg20 : g ≤ 20) (hr : 0 ≤ r.toInt ∧ r.toInt ≤ 3) (hk : ¬ (0 ≤ q.toInt ∧ q.toInt < g)) : fX3_sighting m (Int32.ofNat s) q r Γ (tw m I A S h) n = some (.inl (-Int32.ofNat 1), tw m (va_up I 0 (Int32.ofNat 0)) A S h, 0, 0) := by
  have h4 := ok.2.1
  have e0 := t_noSpecies1 (Γ := Γ) (n := n) (m := m) (I := va_up I 0 (Int32.ofNat 0)) (S := S) (h := h) ok (vS_of hs h4)
  have e1 := t_in1 (Γ := Γ) (h := tw m (va_up I 0 (Int32.ofNat 0)) A S h) (n := n) (a := r.toInt64) (b := 0) (c := 3) (by rw [Int32.toInt_toInt64]; exact hr.1) (by rw [Int32.toInt_toInt64]; exact hr.2)
  have e2 := t_isSighting0 (Γ := Γ) (n := n) (m := m) (I := va_up I 0 (Int32.ofNat 0)) (A := A) (S := S) (h := h) (show s < 4 by omega) hg hg20 hk
  simp (maxDischargeDepth := 9) only [fX3_sighting_p31, fX3_sighting, xbind, xlet, xpure, tw_sel, tg_0, tg_4, tg_9, tg_12, tg_13, tg_14, tg_15, tg_16, tg_17, tg_18, tg_19, tg_20, tg_21, tg_24, tr_1, tr_2, tr_3, tr_5, tr_6, tr_7, tr_8, tr_10, tr_11, tr_22, tr_23, tp_0, tp_4, tp_9, tp_12, tp_13, tp_14, tp_15, tp_16, tp_17, tp_18, tp_19, tp_20, tp_21, tp_24, va_up_self, va_up_ne, va_uu, i_ofNat, i_add, i_mul, Nat.add_zero, Nat.zero_add, reduceIte, if_true, if_false, Nat.reduceEqDiff, ne_eq, not_false_eq_true, Nat.reduceEqDiff, not_true_eq_false, e0, e1, e2, i_10, t_throws0]
theorem t_estimate_no (ok : okN (A 1)) {p q : Int32} (hp : ¬ vS (A 1) p) : fX3_estimate m p q Γ (tw m I A S h) n = some (.inl 0, tw m (va_up I 0 (Int32.ofNat 1)) A S h, 0, 0) := by
  have e0 := t_noSpecies0 (Γ := Γ) (n := n) (m := m) (I := va_up I 0 (Int32.ofNat 0)) (S := S) (h := h) ok hp
  simp (maxDischargeDepth := 9) only [fX3_estimate, xbind, xlet, xpure, tw_sel, tg_0, tg_4, tg_9, tg_12, tg_13, tg_14, tg_15, tg_16, tg_17, tg_18, tg_19, tg_20, tg_21, tg_24, tr_1, tr_2, tr_3, tr_5, tr_6, tr_7, tr_8, tr_10, tr_11, tr_22, tr_23, tp_0, tp_4, tp_9, tp_12, tp_13, tp_14, tp_15, tp_16, tp_17, tp_18, tp_19, tp_20, tp_21, tp_24, va_up_self, va_up_ne, va_uu, i_ofNat, i_add, i_mul, Nat.add_zero, Nat.zero_add, reduceIte, if_true, if_false, Nat.reduceEqDiff, ne_eq, not_false_eq_true, Nat.reduceEqDiff, not_true_eq_false, e0, i_10]
theorem t_estimate1 (ok : okN (A 1)) (hs : s < nn (A 1 0)) {g k : Nat} (hg : A 1 (zI s 12) = Int32.ofNat g) (hg20 : g ≤ 20) (hk : k < g) (hq : ¬ (pSg (A 1) s k 3).toInt64 + (1 : Int64) = 0) : fX3_estimate m (Int32.ofNat s) (Int32.ofNat k) Γ (tw m I A S h) n = some (.inl (pEst (A 1) s k), tw m (va_up I 0 (Int32.ofNat 0)) A S h, 0, 0) := by
  have h4 := ok.2.1
  have e0 := t_noSpecies1 (Γ := Γ) (n := n) (m := m) (I := va_up I 0 (Int32.ofNat 0)) (S := S) (h := h) ok (vS_of hs h4)
  have e2 := t_isSighting1 (Γ := Γ) (n := n) (m := m) (I := va_up I 0 (Int32.ofNat 0)) (A := A) (S := S) (h := h) (show s < 4 by omega) hg hg20 hk
  have e3 := t_estimateOf (Γ := Γ) (n := n) (m := m) (I := va_up I 0 (Int32.ofNat 0)) (A := A) (S := S) (h := h) (show s < 4 by omega) (show k < 20 by omega) hq
  simp (maxDischargeDepth := 9) only [fX3_estimate, xbind, xlet, xpure, tw_sel, tg_0, tg_4, tg_9, tg_12, tg_13, tg_14, tg_15, tg_16, tg_17, tg_18, tg_19, tg_20, tg_21, tg_24, tr_1, tr_2, tr_3, tr_5, tr_6, tr_7, tr_8, tr_10, tr_11, tr_22, tr_23, tp_0, tp_4, tp_9, tp_12, tp_13, tp_14, tp_15, tp_16, tp_17, tp_18, tp_19, tp_20, tp_21, tp_24, va_up_self, va_up_ne, va_uu, i_ofNat, i_add, i_mul, Nat.add_zero, Nat.zero_add, reduceIte, if_true, if_false, Nat.reduceEqDiff, ne_eq, not_false_eq_true, Nat.reduceEqDiff, not_true_eq_false, e0, e2, e3, i_10]
theorem t_estimate3 (ok : okN (A 1)) (hs : s < nn (A 1 0)) {g : Nat} {q : Int32} (hg : A 1 (zI s 12) = Int32.ofNat g) (hg20 : g ≤ 20) (hk : ¬ (0 ≤ q.toInt ∧ q.toInt < g)) : fX3_estimate m (Int32.ofNat s) q Γ (tw m I A S h) n = some (.inl (-1), tw m (va_up I 0 (Int32.ofNat 0)) A S h, 0, 0) := by
  have h4 := ok.2.1
  have e0 := t_noSpecies1 (Γ := Γ) (n := n) (m := m) (I := va_up I 0 (Int32.ofNat 0)) (S := S) (h := h) ok (vS_of hs h4)
  have e2 := t_isSighting0 (Γ := Γ) (n := n) (m := m) (I := va_up I 0 (Int32.ofNat 0)) (A := A) (S := S) (h := h) (show s < 4 by omega) hg hg20 hk
  simp (maxDischargeDepth := 9) only [fX3_estimate, xbind, xlet, xpure, tw_sel, tg_0, tg_4, tg_9, tg_12, tg_13, tg_14, tg_15, tg_16, tg_17, tg_18, tg_19, tg_20, tg_21, tg_24, tr_1, tr_2, tr_3, tr_5, tr_6, tr_7, tr_8, tr_10, tr_11, tr_22, tr_23, tp_0, tp_4, tp_9, tp_12, tp_13, tp_14, tp_15, tp_16, tp_17, tp_18, tp_19, tp_20, tp_21, tp_24, va_up_self, va_up_ne, va_uu, i_ofNat, i_add, i_mul, Nat.add_zero, Nat.zero_add, reduceIte, if_true, if_false, Nat.reduceEqDiff, ne_eq, not_false_eq_true, Nat.reduceEqDiff, not_true_eq_false, e0, e2, i_10]
theorem t_planned0 {p q : Int32} (hq : ¬ (0 ≤ q.toInt ∧ q.toInt ≤ 4)) : fX3_planned m p q Γ (tw m I A S h) n = some (.inl (Int32.ofNat 0), tw m (va_up I 0 (Int32.ofNat 1)) A S h, 0, 0) := by
  have e1 := t_in0 (Γ := Γ) (h := tw m (va_up I 0 (Int32.ofNat 0)) A S h) (n := n) (a := q.toInt64) (b := 0) (c := 4) (by rw [Int32.toInt_toInt64]; exact hq)
  simp (maxDischargeDepth := 9) only [fX3_planned_p23, fX3_planned, xbind, xlet, xpure, tw_sel, tg_0, tg_4, tg_9, tg_12, tg_13, tg_14, tg_15, tg_16, tg_17, tg_18, tg_19, tg_20, tg_21, tg_24, tr_1, tr_2, tr_3, tr_5, tr_6, tr_7, tr_8, tr_10, tr_11, tr_22, tr_23, tp_0, tp_4, tp_9, tp_12, tp_13, tp_14, tp_15, tp_16, tp_17, tp_18, tp_19, tp_20, tp_21, tp_24, va_up_self, va_up_ne, va_uu, i_ofNat, i_add, i_mul, Nat.add_zero, Nat.zero_add, reduceIte, if_true, if_false, Nat.reduceEqDiff, ne_eq, not_false_eq_true, Nat.reduceEqDiff, not_true_eq_false, e1, i_10, t_throws1]
theorem t_planned1 (ok : okN (A 1)) {k w : Nat} (hw : w ≤ 4) (hk : k < nn (A 1 3)) : fX3_planned m (Int32.ofNat k) (Int32.ofNat w) Γ (tw m I A S h) n = some (.inl (A 1 (4 + 5 * k + w)), tw m (va_up I 0 (Int32.ofNat 0)) A S h, 0, 0) := by
  have h3 := ok.2.2.2.2.2.2.1
  have h12 := ok.2.2.2.2.2.2.2.1
  unfold nN at h3
  have e1 := t_in1 (Γ := Γ) (h := tw m (va_up I 0 (Int32.ofNat 0)) A S h) (n := n) (a := (Int32.ofNat w).toInt64) (b := 0) (c := 4) (by rw [Int32.toInt_toInt64, i_toInt (by omega)]; exact Int.natCast_nonneg w) (by rw [Int32.toInt_toInt64, i_toInt (by omega)]; show (w : Int) ≤ 4; omega)
  have e2 := t_in1 (Γ := Γ) (h := tw m (va_up I 0 (Int32.ofNat 0)) A S h) (n := n) (a := (Int32.ofNat k).toInt64) (b := 0) (c := (A 1 3 - Int32.ofNat 1).toInt64) (by rw [Int32.toInt_toInt64, i_toInt (by omega)]; exact Int.natCast_nonneg k) (by rw [h3, i_m1i (by omega), Int32.toInt_toInt64, i_toInt (by omega)]; omega)
  simp (maxDischargeDepth := 9) only [fX3_planned_p23, fX3_planned, xbind, xlet, xpure, tw_sel, tg_0, tg_4, tg_9, tg_12, tg_13, tg_14, tg_15, tg_16, tg_17, tg_18, tg_19, tg_20, tg_21, tg_24, tr_1, tr_2, tr_3, tr_5, tr_6, tr_7, tr_8, tr_10, tr_11, tr_22, tr_23, tp_0, tp_4, tp_9, tp_12, tp_13, tp_14, tp_15, tp_16, tp_17, tp_18, tp_19, tp_20, tp_21, tp_24, va_up_self, va_up_ne, va_uu, i_ofNat, i_add, i_mul, Nat.add_zero, Nat.zero_add, reduceIte, if_true, if_false, Nat.reduceEqDiff, ne_eq, not_false_eq_true, Nat.reduceEqDiff, not_true_eq_false, e1, e2, i_10, t_throws0, tl_1 (show 3 < 592 by omega), tl_1 (show 4 + 5 * k + w < 592 by omega)]
theorem t_planned3 (ok : okN (A 1)) {p q : Int32} (hq : 0 ≤ q.toInt ∧ q.toInt ≤ 4) (hk : ¬ (0 ≤ p.toInt ∧ p.toInt < nn (A 1 3))) : fX3_planned m p q Γ (tw m I A S h) n = some (.inl (-Int32.ofNat 1), tw m (va_up I 0 (Int32.ofNat 0)) A S h, 0, 0) := by
  have h3 := ok.2.2.2.2.2.2.1
  have h12 := ok.2.2.2.2.2.2.2.1
  unfold nN at h3
  have e1 := t_in1 (Γ := Γ) (h := tw m (va_up I 0 (Int32.ofNat 0)) A S h) (n := n) (a := q.toInt64) (b := 0) (c := 4) (by rw [Int32.toInt_toInt64]; exact hq.1) (by rw [Int32.toInt_toInt64]; exact hq.2)
  have e2 := t_in0 (Γ := Γ) (h := tw m (va_up I 0 (Int32.ofNat 0)) A S h) (n := n) (a := p.toInt64) (b := 0) (c := (A 1 3 - Int32.ofNat 1).toInt64) (by
    rw [h3, i_m1i (by omega), Int32.toInt_toInt64]
    rintro ⟨q1, q2⟩
    have q1 : 0 ≤ p.toInt := q1
    exact hk ⟨q1, by omega⟩)
  simp (maxDischargeDepth := 9) only [fX3_planned_p23, fX3_planned, xbind, xlet, xpure, tw_sel, tg_0, tg_4, tg_9, tg_12, tg_13, tg_14, tg_15, tg_16, tg_17, tg_18, tg_19, tg_20, tg_21, tg_24, tr_1, tr_2, tr_3, tr_5, tr_6, tr_7, tr_8, tr_10, tr_11, tr_22, tr_23, tp_0, tp_4, tp_9, tp_12, tp_13, tp_14, tp_15, tp_16, tp_17, tp_18, tp_19, tp_20, tp_21, tp_24, va_up_self, va_up_ne, va_uu, i_ofNat, i_add, i_mul, Nat.add_zero, Nat.zero_add, reduceIte, if_true, if_false, Nat.reduceEqDiff, ne_eq, not_false_eq_true, Nat.reduceEqDiff, not_true_eq_false, e1, e2, i_10, t_throws0, tl_1 (show 3 < 592 by omega)]
theorem t_survey_p130 (hs : s < 4) (N : Nat → Int32) (a b c : Int32) (hq : ¬ c.toInt64 + (1 : Int64) = 0) : ∀ (r x fu : Nat), x = 3 + r → x ≤ 79 → r < fu →
    fX3_survey_p130 fu m (Int32.ofNat s) b c a (Int32.ofNat x) Γ (tw m I (va_up A 1 (pS4 N s x)) S h) n = some (.inl (pEst (pSv0 N s a b c) s 0), tw m I (va_up A 1 (pSv0 N s a b c)) S h, 0, 0) := by
  intro r
  induction r with
  | zero =>
    intro x fu hx h79 hf
    obtain ⟨fu, rfl⟩ : ∃ g, fu = g + 1 := ⟨fu - 1, by omega⟩
    have hx' : x = 3 := by omega
    subst hx'
    have c1 : Int32.ofNat 3 < Int32.ofNat 4 := by decide
    have k0 := zI_lt hs (show 52 < 132 by omega)
    have k1 := zI_lt hs (show 53 < 132 by omega)
    have k2 := zI_lt hs (show 54 < 132 by omega)
    have k3 := zI_lt hs (show 55 < 132 by omega)
    have e := t_estimateOf (Γ := Γ) (n := n) (m := m) (I := I) (A := va_up A 1 (pSv0 N s a b c)) (S := S) (h := h) (k := 0) hs (by omega) (by
      rw [va_up_self]
      unfold pSg pSv0
      rw [va_up_self]
      exact hq)
    simp (maxDischargeDepth := 9) only [xbind, xlet, xpure, tw_sel, tg_0, tg_4, tg_9, tg_12, tg_13, tg_14, tg_15, tg_16, tg_17, tg_18, tg_19, tg_20, tg_21, tg_24, tr_1, tr_2, tr_3, tr_5, tr_6, tr_7, tr_8, tr_10, tr_11, tr_22, tr_23, tp_0, tp_4, tp_9, tp_12, tp_13, tp_14, tp_15, tp_16, tp_17, tp_18, tp_19, tp_20, tp_21, tp_24, va_up_self, va_up_ne, va_uu, i_ofNat, i_add, i_mul, Nat.add_zero, Nat.zero_add, reduceIte, if_true, if_false, Nat.reduceEqDiff, ne_eq, not_false_eq_true, Nat.reduceEqDiff, not_true_eq_false, pSv0] at e
    rw [fX3_survey_p130]
    simp (maxDischargeDepth := 9) only [xbind, xlet, xpure, tw_sel, tg_0, tg_4, tg_9, tg_12, tg_13, tg_14, tg_15, tg_16, tg_17, tg_18, tg_19, tg_20, tg_21, tg_24, tr_1, tr_2, tr_3, tr_5, tr_6, tr_7, tr_8, tr_10, tr_11, tr_22, tr_23, tp_0, tp_4, tp_9, tp_12, tp_13, tp_14, tp_15, tp_16, tp_17, tp_18, tp_19, tp_20, tp_21, tp_24, va_up_self, va_up_ne, va_uu, i_ofNat, i_add, i_mul, Nat.add_zero, Nat.zero_add, reduceIte, if_true, if_false, Nat.reduceEqDiff, ne_eq, not_false_eq_true, Nat.reduceEqDiff, not_true_eq_false, c1, t_at2, tl_1 (show 1 < 592 by omega), ts_1 k0, ts_1 k1, ts_1 k2, ts_1 k3, e, pSv0]
  | succ r ih =>
    intro x fu hx h79 hf
    obtain ⟨fu, rfl⟩ : ∃ g, fu = g + 1 := ⟨fu - 1, by omega⟩
    have c1 : ¬ Int32.ofNat x < Int32.ofNat 4 := by rw [i_lt (by omega) (by omega)]; omega
    have m1 : Int32.ofNat (52 + x) - Int32.ofNat 4 = Int32.ofNat (52 + x - 4) := i_sub (by omega)
    have m2 : Int32.ofNat x + -Int32.ofNat 1 = Int32.ofNat (x - 1) := i_addneg (by omega)
    have e1 := t_of (Γ := Γ) (n := n) (m := m) (I := I) (A := va_up A 1 (pS4 N s x)) (S := S) (h := h) hs (show 52 + x - 4 < 132 by omega)
    have e := ih (x - 1) fu (by omega) (by omega) (by omega)
    have hst := pS4_step (N := N) (s := s) (x := x) (by omega) h79
    simp (maxDischargeDepth := 9) only [xbind, xlet, xpure, tw_sel, tg_0, tg_4, tg_9, tg_12, tg_13, tg_14, tg_15, tg_16, tg_17, tg_18, tg_19, tg_20, tg_21, tg_24, tr_1, tr_2, tr_3, tr_5, tr_6, tr_7, tr_8, tr_10, tr_11, tr_22, tr_23, tp_0, tp_4, tp_9, tp_12, tp_13, tp_14, tp_15, tp_16, tp_17, tp_18, tp_19, tp_20, tp_21, tp_24, va_up_self, va_up_ne, va_uu, i_ofNat, i_add, i_mul, Nat.add_zero, Nat.zero_add, reduceIte, if_true, if_false, Nat.reduceEqDiff, ne_eq, not_false_eq_true, Nat.reduceEqDiff, not_true_eq_false] at e1
    rw [fX3_survey_p130]
    simp (maxDischargeDepth := 9) only [xbind, xlet, xpure, tw_sel, tg_0, tg_4, tg_9, tg_12, tg_13, tg_14, tg_15, tg_16, tg_17, tg_18, tg_19, tg_20, tg_21, tg_24, tr_1, tr_2, tr_3, tr_5, tr_6, tr_7, tr_8, tr_10, tr_11, tr_22, tr_23, tp_0, tp_4, tp_9, tp_12, tp_13, tp_14, tp_15, tp_16, tp_17, tp_18, tp_19, tp_20, tp_21, tp_24, va_up_self, va_up_ne, va_uu, i_ofNat, i_add, i_mul, Nat.add_zero, Nat.zero_add, reduceIte, if_true, if_false, Nat.reduceEqDiff, ne_eq, not_false_eq_true, Nat.reduceEqDiff, not_true_eq_false, c1, t_at2, m1, m2, e1, ts_1 (zI_lt hs (show 52 + x < 132 by omega)), hst, e]
theorem t_survey_no (ok : okN (A 1)) {p q r : Int32} (hp : ¬ vS (A 1) p) : fX3_survey m p q r Γ (tw m I A S h) n = some (.inl 0, tw m (va_up I 0 (Int32.ofNat 1)) A S h, 0, 0) := by
  have e0 := t_noSpecies0 (Γ := Γ) (n := n) (m := m) (I := va_up I 0 (Int32.ofNat 0)) (S := S) (h := h) ok hp
  simp (maxDischargeDepth := 9) only [fX3_survey_p126, fX3_survey_p86, fX3_survey_p73, fX3_survey_p72, fX3_survey, xbind, xlet, xpure, tw_sel, tg_0, tg_4, tg_9, tg_12, tg_13, tg_14, tg_15, tg_16, tg_17, tg_18, tg_19, tg_20, tg_21, tg_24, tr_1, tr_2, tr_3, tr_5, tr_6, tr_7, tr_8, tr_10, tr_11, tr_22, tr_23, tp_0, tp_4, tp_9, tp_12, tp_13, tp_14, tp_15, tp_16, tp_17, tp_18, tp_19, tp_20, tp_21, tp_24, va_up_self, va_up_ne, va_uu, i_ofNat, i_add, i_mul, Nat.add_zero, Nat.zero_add, reduceIte, if_true, if_false, Nat.reduceEqDiff, ne_eq, not_false_eq_true, Nat.reduceEqDiff, not_true_eq_false, e0, i_10]
/-- a survey that can be -/
def pSvOk (N : Nat → Int32) (s : Nat) (v r : Int32) : Prop := ((1 ≤ v.toInt ∧ v.toInt ≤ (pTot N s (nn (N (zI s 1)))).toInt) ∧ (0 ≤ r.toInt ∧ r.toInt ≤ (imin v (N (zI s 4))).toInt)) ∧ ¬ (pTot N s (nn (N (zI s 1))) - N (zI s 4) < v - r)
theorem t_survey2 (ok : okN (A 1)) (hs : s < nn (A 1 0)) {v r : Int32} (hv : ¬ pSvOk (A 1) s v r) : fX3_survey m (Int32.ofNat s) v r Γ (tw m I A S h) n = some (.inl 0, tw m (va_up I 0 (Int32.ofNat 2)) A S h, 0, 0) := by
  have h4 := ok.2.1
  have hs4 : s < 4 := by omega
  obtain ⟨a1, a2, -⟩ := ok.2.2.2.2.2.2.2.2.1 s hs
  unfold nN at a1
  have e0 := t_noSpecies1 (Γ := Γ) (n := n) (m := m) (I := va_up I 0 (Int32.ofNat 0)) (S := S) (h := h) ok (vS_of hs h4)
  have e1 := t_of (Γ := Γ) (n := n) (m := m) (I := va_up I 0 (Int32.ofNat 0)) (A := A) (S := S) (h := h) hs4 (show 4 < 132 by omega)
  have e2 := t_totalOf (Γ := Γ) (n := n) (m := m) (I := va_up I 0 (Int32.ofNat 0)) (A := A) (S := S) (h := h) hs4 a1 a2
  by_cases c1 : 1 ≤ v.toInt ∧ v.toInt ≤ (pTot (A 1) s (nn (A 1 (zI s 1)))).toInt
  · have e3 := t_in1 (Γ := Γ) (h := tw m (va_up I 0 (Int32.ofNat 0)) A S h) (n := n) (a := v.toInt64) (b := 1) (c := (pTot (A 1) s (nn (A 1 (zI s 1)))).toInt64) (by rw [Int32.toInt_toInt64]; exact c1.1) (by rw [Int32.toInt_toInt64, Int32.toInt_toInt64]; exact c1.2)
    by_cases c2 : 0 ≤ r.toInt ∧ r.toInt ≤ (imin v (A 1 (zI s 4))).toInt
    · have e4 := t_in1 (Γ := Γ) (h := tw m (va_up I 0 (Int32.ofNat 0)) A S h) (n := n) (a := r.toInt64) (b := 0) (c := (imin v (A 1 (zI s 4))).toInt64) (by rw [Int32.toInt_toInt64]; exact c2.1) (by rw [Int32.toInt_toInt64, Int32.toInt_toInt64]; exact c2.2)
      have c3 : pTot (A 1) s (nn (A 1 (zI s 1))) - A 1 (zI s 4) < v - r := Classical.not_not.mp fun q => hv ⟨⟨c1, c2⟩, q⟩
      simp (maxDischargeDepth := 9) only [fX3_survey_p126, fX3_survey_p86, fX3_survey_p73, fX3_survey_p72, fX3_survey, xbind, xlet, xpure, tw_sel, tg_0, tg_4, tg_9, tg_12, tg_13, tg_14, tg_15, tg_16, tg_17, tg_18, tg_19, tg_20, tg_21, tg_24, tr_1, tr_2, tr_3, tr_5, tr_6, tr_7, tr_8, tr_10, tr_11, tr_22, tr_23, tp_0, tp_4, tp_9, tp_12, tp_13, tp_14, tp_15, tp_16, tp_17, tp_18, tp_19, tp_20, tp_21, tp_24, va_up_self, va_up_ne, va_uu, i_ofNat, i_add, i_mul, Nat.add_zero, Nat.zero_add, reduceIte, if_true, if_false, Nat.reduceEqDiff, ne_eq, not_false_eq_true, Nat.reduceEqDiff, not_true_eq_false, e0, e1, e2, e3, e4, i_im, i_10, c3, t_throws1]
    · have e4 := t_in0 (Γ := Γ) (h := tw m (va_up I 0 (Int32.ofNat 0)) A S h) (n := n) (a := r.toInt64) (b := 0) (c := (imin v (A 1 (zI s 4))).toInt64) (by rw [Int32.toInt_toInt64, Int32.toInt_toInt64]; exact c2)
      simp (maxDischargeDepth := 9) only [fX3_survey_p126, fX3_survey_p86, fX3_survey_p73, fX3_survey_p72, fX3_survey, xbind, xlet, xpure, tw_sel, tg_0, tg_4, tg_9, tg_12, tg_13, tg_14, tg_15, tg_16, tg_17, tg_18, tg_19, tg_20, tg_21, tg_24, tr_1, tr_2, tr_3, tr_5, tr_6, tr_7, tr_8, tr_10, tr_11, tr_22, tr_23, tp_0, tp_4, tp_9, tp_12, tp_13, tp_14, tp_15, tp_16, tp_17, tp_18, tp_19, tp_20, tp_21, tp_24, va_up_self, va_up_ne, va_uu, i_ofNat, i_add, i_mul, Nat.add_zero, Nat.zero_add, reduceIte, if_true, if_false, Nat.reduceEqDiff, ne_eq, not_false_eq_true, Nat.reduceEqDiff, not_true_eq_false, e0, e1, e2, e3, e4, i_im, i_10, t_throws1]
  · have e3 := t_in0 (Γ := Γ) (h := tw m (va_up I 0 (Int32.ofNat 0)) A S h) (n := n) (a := v.toInt64) (b := 1) (c := (pTot (A 1) s (nn (A 1 (zI s 1)))).toInt64) (by rw [Int32.toInt_toInt64, Int32.toInt_toInt64]; exact c1)
    simp (maxDischargeDepth := 9) only [fX3_survey_p126, fX3_survey_p86, fX3_survey_p73, fX3_survey_p72, fX3_survey, xbind, xlet, xpure, tw_sel, tg_0, tg_4, tg_9, tg_12, tg_13, tg_14, tg_15, tg_16, tg_17, tg_18, tg_19, tg_20, tg_21, tg_24, tr_1, tr_2, tr_3, tr_5, tr_6, tr_7, tr_8, tr_10, tr_11, tr_22, tr_23, tp_0, tp_4, tp_9, tp_12, tp_13, tp_14, tp_15, tp_16, tp_17, tp_18, tp_19, tp_20, tp_21, tp_24, va_up_self, va_up_ne, va_uu, i_ofNat, i_add, i_mul, Nat.add_zero, Nat.zero_add, reduceIte, if_true, if_false, Nat.reduceEqDiff, ne_eq, not_false_eq_true, Nat.reduceEqDiff, not_true_eq_false, e0, e1, e2, e3, i_10, t_throws1]
theorem t_survey1 (ok : okN (A 1)) (hd : I 4 = Int32.ofNat d) (hd8 : d ≤ 8) (hs : s < nn (A 1 0)) {v r : Int32} (hv : pSvOk (A 1) s v r) : fX3_survey m (Int32.ofNat s) v r Γ (tw m I A S h) n = some (.inl (pEst (pSurvey (A 1) s (A 1 (zI s 4)) v r) s 0), tw m (kI I d) (kA A d (pSurvey (A 1) s (A 1 (zI s 4)) v r)) S h, 0, 0) := by
  have h4 := ok.2.1
  have hs4 : s < 4 := by omega
  obtain ⟨a1, a2, -⟩ := ok.2.2.2.2.2.2.2.2.1 s hs
  unfold nN at a1
  obtain ⟨⟨c1, c2⟩, c3⟩ := hv
  have hq : ¬ r.toInt64 + (1 : Int64) = 0 := by
    rw [← Int64.toInt_inj, Int64.toInt_add, Int32.toInt_toInt64]
    have hr1 := c2.1
    have hr2 : r.toInt < 2147483648 := Int32.toInt_lt r
    have : ((1 : Int64)).toInt = 1 := by decide
    rw [this, Int.bmod_eq_of_le (by omega) (by omega)]
    show ¬ (r.toInt + 1 = 0)
    omega
  have h12 := zI_lt hs4 (show 12 < 132 by omega)
  have e0 := t_noSpecies1 (Γ := Γ) (n := n) (m := m) (I := va_up I 0 (Int32.ofNat 0)) (S := S) (h := h) ok (vS_of hs h4)
  have e1 := t_of (Γ := Γ) (n := n) (m := m) (I := va_up I 0 (Int32.ofNat 0)) (A := A) (S := S) (h := h) hs4 (show 4 < 132 by omega)
  have e2 := t_totalOf (Γ := Γ) (n := n) (m := m) (I := va_up I 0 (Int32.ofNat 0)) (A := A) (S := S) (h := h) hs4 a1 a2
  have e3 := t_in1 (Γ := Γ) (h := tw m (va_up I 0 (Int32.ofNat 0)) A S h) (n := n) (a := v.toInt64) (b := 1) (c := (pTot (A 1) s (nn (A 1 (zI s 1)))).toInt64) (by rw [Int32.toInt_toInt64]; exact c1.1) (by rw [Int32.toInt_toInt64, Int32.toInt_toInt64]; exact c1.2)
  have e4 := t_in1 (Γ := Γ) (h := tw m (va_up I 0 (Int32.ofNat 0)) A S h) (n := n) (a := r.toInt64) (b := 0) (c := (imin v (A 1 (zI s 4))).toInt64) (by rw [Int32.toInt_toInt64]; exact c2.1) (by rw [Int32.toInt_toInt64, Int32.toInt_toInt64]; exact c2.2)
  have e5 := t_keeps0 (Γ := Γ) (n := n) (m := m) (I := I) (A := A) (S := S) (h := h) hd hd8
  have e6 := t_of (Γ := Γ) (n := n) (m := m) (I := kI I d) (A := va_up A 3 (pPast (A 3) (A 1) d)) (S := S) (h := h) hs4 (show 12 < 132 by omega)
  unfold pSurvey
  by_cases c4 : Int32.ofNat 20 ≤ A 1 (zI s 12)
  · have e7 := t_survey_p130 (Γ := Γ) (n := n) (m := m) (I := kI I d) (A := va_up A 3 (pPast (A 3) (A 1) d)) (S := S) (h := h) hs4 (A 1) (A 1 (zI s 4)) v r hq 76 79 xFU (by omega) (by omega) (by unfold xFU; omega)
    rw [pS4_79] at e7
    have hA : va_up (va_up A 3 (pPast (A 3) (A 1) d)) 1 (A 1) = va_up A 3 (pPast (A 3) (A 1) d) := by
      rw [va_sw _ _ _ (by omega), va_id]
    rw [hA] at e7
    simp (maxDischargeDepth := 9) only [xbind, xlet, xpure, tw_sel, tg_0, tg_4, tg_9, tg_12, tg_13, tg_14, tg_15, tg_16, tg_17, tg_18, tg_19, tg_20, tg_21, tg_24, tr_1, tr_2, tr_3, tr_5, tr_6, tr_7, tr_8, tr_10, tr_11, tr_22, tr_23, tp_0, tp_4, tp_9, tp_12, tp_13, tp_14, tp_15, tp_16, tp_17, tp_18, tp_19, tp_20, tp_21, tp_24, va_up_self, va_up_ne, va_uu, i_ofNat, i_add, i_mul, Nat.add_zero, Nat.zero_add, reduceIte, if_true, if_false, Nat.reduceEqDiff, ne_eq, not_false_eq_true, Nat.reduceEqDiff, not_true_eq_false] at e6
    simp (maxDischargeDepth := 9) only [fX3_survey_p126, fX3_survey_p86, fX3_survey_p73, fX3_survey_p72, fX3_survey, xbind, xlet, xpure, tw_sel, tg_0, tg_4, tg_9, tg_12, tg_13, tg_14, tg_15, tg_16, tg_17, tg_18, tg_19, tg_20, tg_21, tg_24, tr_1, tr_2, tr_3, tr_5, tr_6, tr_7, tr_8, tr_10, tr_11, tr_22, tr_23, tp_0, tp_4, tp_9, tp_12, tp_13, tp_14, tp_15, tp_16, tp_17, tp_18, tp_19, tp_20, tp_21, tp_24, va_up_self, va_up_ne, va_uu, i_ofNat, i_add, i_mul, Nat.add_zero, Nat.zero_add, reduceIte, if_true, if_false, Nat.reduceEqDiff, ne_eq, not_false_eq_true, Nat.reduceEqDiff, not_true_eq_false, e0, e1, e2, e3, e4, i_im, i_10, c3, t_throws0, e5, e6, c4, e7]
  · have e7 := t_survey_p130 (Γ := Γ) (n := n) (m := m) (I := kI I d) (A := va_up A 3 (pPast (A 3) (A 1) d)) (S := S) (h := h) hs4 (va_up (A 1) (zI s 12) (A 1 (zI s 12) + Int32.ofNat 1)) (A 1 (zI s 4)) v r hq 76 79 xFU (by omega) (by omega) (by unfold xFU; omega)
    rw [pS4_79] at e7
    simp (maxDischargeDepth := 9) only [xbind, xlet, xpure, tw_sel, tg_0, tg_4, tg_9, tg_12, tg_13, tg_14, tg_15, tg_16, tg_17, tg_18, tg_19, tg_20, tg_21, tg_24, tr_1, tr_2, tr_3, tr_5, tr_6, tr_7, tr_8, tr_10, tr_11, tr_22, tr_23, tp_0, tp_4, tp_9, tp_12, tp_13, tp_14, tp_15, tp_16, tp_17, tp_18, tp_19, tp_20, tp_21, tp_24, va_up_self, va_up_ne, va_uu, i_ofNat, i_add, i_mul, Nat.add_zero, Nat.zero_add, reduceIte, if_true, if_false, Nat.reduceEqDiff, ne_eq, not_false_eq_true, Nat.reduceEqDiff, not_true_eq_false] at e6
    simp (maxDischargeDepth := 9) only [fX3_survey_p126, fX3_survey_p86, fX3_survey_p73, fX3_survey_p72, fX3_survey, xbind, xlet, xpure, tw_sel, tg_0, tg_4, tg_9, tg_12, tg_13, tg_14, tg_15, tg_16, tg_17, tg_18, tg_19, tg_20, tg_21, tg_24, tr_1, tr_2, tr_3, tr_5, tr_6, tr_7, tr_8, tr_10, tr_11, tr_22, tr_23, tp_0, tp_4, tp_9, tp_12, tp_13, tp_14, tp_15, tp_16, tp_17, tp_18, tp_19, tp_20, tp_21, tp_24, va_up_self, va_up_ne, va_uu, i_ofNat, i_add, i_mul, Nat.add_zero, Nat.zero_add, reduceIte, if_true, if_false, Nat.reduceEqDiff, ne_eq, not_false_eq_true, Nat.reduceEqDiff, not_true_eq_false, e0, e1, e2, e3, e4, i_im, i_10, c3, t_throws0, e5, e6, c4, t_at2, tl_1 h12, ts_1 h12, e7]
end TW18
