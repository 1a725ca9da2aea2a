/-! part 423: the twin: history; simple actions -/
def pShP (P : Nat → Int32) (i : Nat) : Nat → Int32 := fun j => if j + 592 < i then P (j + 592) else P j
def pPast (P N : Nat → Int32) (d : Nat) : Nat → Int32 := if d = 8 then pCpy N (pShP P 4736) 0 4144 592 else pCpy N P 0 (592 * d) 592
def pDp (d : Nat) : Nat := if d = 8 then 8 else d + 1
theorem pShP_0 {P : Nat → Int32} : pShP P 592 = P := by
  funext j
  unfold pShP
  rw [if_neg (by omega)]
theorem pShP_step {P : Nat → Int32} {i : Nat} (hi : 592 ≤ i) : va_up (pShP P i) (i - 592) (pShP P i i) = pShP P (i + 1) := by
  funext j
  have e : pShP P i i = P i := by unfold pShP; rw [if_neg (by omega)]
  rw [va_ap, e]
  unfold pShP
  by_cases hj : j = i - 592
  · rw [if_pos hj, if_pos (by omega)]
    congr 1
    omega
  · rw [if_neg hj]
    by_cases hc : j + 592 < i
    · rw [if_pos hc, if_pos (by omega)]
    · rw [if_neg hc, if_neg (by omega)]
section TW14
variable {Γ : Nat → Option Nat} {m n : Nat} {S : Nat → Int64} {h : xH}
theorem t_keeps_p52 {I : Nat → Int32} {A : Nat → Nat → Int32} {d : Nat} (hd : I 4 = Int32.ofNat d) (hd8 : d < 8) : fX3_keeps_p52 m Γ (tw m I A S h) n = some (.inl (), tw m (va_up I 4 (Int32.ofNat (d + 1))) (va_up A 3 (pCpy (A 1) (A 3) 0 (592 * d) 592)) S h, 0, 0) := by
  have e := t_copies_13 (Γ := Γ) (n := n) (m := m) (I := I) (A := A) (S := S) (h := h) (oa := 0) (ob := 592 * d) (by omega) (by omega)
  simp (maxDischargeDepth := 9) only [fX3_keeps_p52, xbind, xlet, xpure, tw_sel, tg_0, tg_4, tg_9, tg_12, tg_13, tg_14, tg_15, tg_16, tg_17, tg_18, tg_19, tg_20, tg_21, tg_24, tr_1, tr_2, tr_3, tr_5, tr_6, tr_7, tr_8, tr_10, tr_11, tr_22, tr_23, tp_0, tp_4, tp_9, tp_12, tp_13, tp_14, tp_15, tp_16, tp_17, tp_18, tp_19, tp_20, tp_21, tp_24, va_up_self, va_up_ne, va_uu, i_ofNat, i_add, i_mul, Nat.add_zero, Nat.zero_add, reduceIte, if_true, if_false, Nat.reduceEqDiff, ne_eq, not_false_eq_true, Nat.reduceEqDiff, not_true_eq_false, hd, e]
theorem t_keeps_p13 {I : Nat → Int32} {A : Nat → Nat → Int32} (hd : I 4 = Int32.ofNat 8) : ∀ (r i fu : Nat), i + r = 4736 → 592 ≤ i → r < fu → fX3_keeps_p13 fu m (Int32.ofNat i) Γ (tw m I (va_up A 3 (pShP (A 3) i)) S h) n = some (.inl (), tw m (va_up I 4 (Int32.ofNat 8)) (va_up A 3 (pCpy (A 1) (pShP (A 3) 4736) 0 4144 592)) S h, 0, 0) := by
  intro r
  induction r with
  | zero =>
    intro i fu hi h5 hf
    obtain ⟨fu, rfl⟩ : ∃ g, fu = g + 1 := ⟨fu - 1, by omega⟩
    have hi' : i = 4736 := by omega
    subst hi'
    have c1 : Int32.ofNat 4736 ≤ Int32.ofNat 4736 := by decide
    have e := t_keeps_p52 (Γ := Γ) (n := n) (m := m) (I := va_up I 4 (Int32.ofNat 7)) (A := va_up A 3 (pShP (A 3) 4736)) (S := S) (h := h) (d := 7) (va_up_self _ _ _) (by omega)
    have m1 : Int32.ofNat 8 - Int32.ofNat 1 = Int32.ofNat 7 := by decide
    simp (maxDischargeDepth := 9) only [xbind, xlet, xpure, tw_sel, tg_0, tg_4, tg_9, tg_12, tg_13, tg_14, tg_15, tg_16, tg_17, tg_18, tg_19, tg_20, tg_21, tg_24, tr_1, tr_2, tr_3, tr_5, tr_6, tr_7, tr_8, tr_10, tr_11, tr_22, tr_23, tp_0, tp_4, tp_9, tp_12, tp_13, tp_14, tp_15, tp_16, tp_17, tp_18, tp_19, tp_20, tp_21, tp_24, va_up_self, va_up_ne, va_uu, i_ofNat, i_add, i_mul, Nat.add_zero, Nat.zero_add, reduceIte, if_true, if_false, Nat.reduceEqDiff, ne_eq, not_false_eq_true, Nat.reduceEqDiff, not_true_eq_false, Nat.reduceMul, Nat.reduceAdd] at e
    rw [fX3_keeps_p13]
    simp (maxDischargeDepth := 9) only [xbind, xlet, xpure, tw_sel, tg_0, tg_4, tg_9, tg_12, tg_13, tg_14, tg_15, tg_16, tg_17, tg_18, tg_19, tg_20, tg_21, tg_24, tr_1, tr_2, tr_3, tr_5, tr_6, tr_7, tr_8, tr_10, tr_11, tr_22, tr_23, tp_0, tp_4, tp_9, tp_12, tp_13, tp_14, tp_15, tp_16, tp_17, tp_18, tp_19, tp_20, tp_21, tp_24, va_up_self, va_up_ne, va_uu, i_ofNat, i_add, i_mul, Nat.add_zero, Nat.zero_add, reduceIte, if_true, if_false, Nat.reduceEqDiff, ne_eq, not_false_eq_true, Nat.reduceEqDiff, not_true_eq_false, c1, hd, m1, e]
  | succ r ih =>
    intro i fu hi h5 hf
    obtain ⟨fu, rfl⟩ : ∃ g, fu = g + 1 := ⟨fu - 1, by omega⟩
    have c1 : ¬ Int32.ofNat 4736 ≤ Int32.ofNat i := by rw [i_le (by omega) (by omega)]; omega
    have m1 : Int32.ofNat i - Int32.ofNat 592 = Int32.ofNat (i - 592) := i_sub h5
    have e := ih (i + 1) fu (by omega) (by omega) (by omega)
    have hst := pShP_step (P := A 3) h5
    rw [fX3_keeps_p13]
    simp (maxDischargeDepth := 9) only [xbind, xlet, xpure, tw_sel, tg_0, tg_4, tg_9, tg_12, tg_13, tg_14, tg_15, tg_16, tg_17, tg_18, tg_19, tg_20, tg_21, tg_24, tr_1, tr_2, tr_3, tr_5, tr_6, tr_7, tr_8, tr_10, tr_11, tr_22, tr_23, tp_0, tp_4, tp_9, tp_12, tp_13, tp_14, tp_15, tp_16, tp_17, tp_18, tp_19, tp_20, tp_21, tp_24, va_up_self, va_up_ne, va_uu, i_ofNat, i_add, i_mul, Nat.add_zero, Nat.zero_add, reduceIte, if_true, if_false, Nat.reduceEqDiff, ne_eq, not_false_eq_true, Nat.reduceEqDiff, not_true_eq_false, c1, m1, tl_3 (show i < 4736 by omega), ts_3 (show i - 592 < 4736 by omega), hst, e]
theorem t_keeps {I : Nat → Int32} {A : Nat → Nat → Int32} {d : Nat} (hd : I 4 = Int32.ofNat d) (hd8 : d ≤ 8) : fX3_keeps m Γ (tw m I A S h) n = some (.inl (), tw m (va_up I 4 (Int32.ofNat (pDp d))) (va_up A 3 (pPast (A 3) (A 1) d)) S h, 0, 0) := by
  unfold pPast pDp
  by_cases c : d = 8
  · subst c
    have e := t_keeps_p13 (Γ := Γ) (n := n) (m := m) (I := I) (A := A) (S := S) (h := h) hd (4736 - 592) 592 xFU (by omega) (by omega) (by unfold xFU; omega)
    rw [pShP_0, va_id] at e
    simp (maxDischargeDepth := 9) only [fX3_keeps, xbind, xlet, xpure, tw_sel, tg_0, tg_4, tg_9, tg_12, tg_13, tg_14, tg_15, tg_16, tg_17, tg_18, tg_19, tg_20, tg_21, tg_24, tr_1, tr_2, tr_3, tr_5, tr_6, tr_7, tr_8, tr_10, tr_11, tr_22, tr_23, tp_0, tp_4, tp_9, tp_12, tp_13, tp_14, tp_15, tp_16, tp_17, tp_18, tp_19, tp_20, tp_21, tp_24, va_up_self, va_up_ne, va_uu, i_ofNat, i_add, i_mul, Nat.add_zero, Nat.zero_add, reduceIte, if_true, if_false, Nat.reduceEqDiff, ne_eq, not_false_eq_true, Nat.reduceEqDiff, not_true_eq_false, hd, e]
  · have l1 : ¬ (Int32.ofNat d = Int32.ofNat 8) := by rw [i_eq (by omega) (by omega)]; exact c
    have e := t_keeps_p52 (Γ := Γ) (n := n) (m := m) (I := I) (A := A) (S := S) (h := h) hd (by omega)
    simp (maxDischargeDepth := 9) only [fX3_keeps, xbind, xlet, xpure, tw_sel, tg_0, tg_4, tg_9, tg_12, tg_13, tg_14, tg_15, tg_16, tg_17, tg_18, tg_19, tg_20, tg_21, tg_24, tr_1, tr_2, tr_3, tr_5, tr_6, tr_7, tr_8, tr_10, tr_11, tr_22, tr_23, tp_0, tp_4, tp_9, tp_12, tp_13, tp_14, tp_15, tp_16, tp_17, tp_18, tp_19, tp_20, tp_21, tp_24, va_up_self, va_up_ne, va_uu, i_ofNat, i_add, i_mul, Nat.add_zero, Nat.zero_add, reduceIte, if_true, if_false, Nat.reduceEqDiff, ne_eq, not_false_eq_true, Nat.reduceEqDiff, not_true_eq_false, hd, l1, c, e]
theorem t_undo0 {I : Nat → Int32} {A : Nat → Nat → Int32} (hd : I 4 = Int32.ofNat 0) : fX3_undo m Γ (tw m I A S h) n = some (.inl (-Int32.ofNat 1), tw m (va_up I 0 (Int32.ofNat 0)) A S h, 0, 0) := by
  simp (maxDischargeDepth := 9) only [fX3_undo, xbind, xlet, xpure, tw_sel, tg_0, tg_4, tg_9, tg_12, tg_13, tg_14, tg_15, tg_16, tg_17, tg_18, tg_19, tg_20, tg_21, tg_24, tr_1, tr_2, tr_3, tr_5, tr_6, tr_7, tr_8, tr_10, tr_11, tr_22, tr_23, tp_0, tp_4, tp_9, tp_12, tp_13, tp_14, tp_15, tp_16, tp_17, tp_18, tp_19, tp_20, tp_21, tp_24, va_up_self, va_up_ne, va_uu, i_ofNat, i_add, i_mul, Nat.add_zero, Nat.zero_add, reduceIte, if_true, if_false, Nat.reduceEqDiff, ne_eq, not_false_eq_true, Nat.reduceEqDiff, not_true_eq_false, hd]
theorem t_undo1 {I : Nat → Int32} {A : Nat → Nat → Int32} {d : Nat} (hd : I 4 = Int32.ofNat (d + 1)) (hd8 : d < 8) : fX3_undo m Γ (tw m I A S h) n = some (.inl (Int32.ofNat d), tw m (va_up (va_up I 0 (Int32.ofNat 0)) 4 (Int32.ofNat d)) (va_up A 1 (pCpy (A 3) (A 1) (592 * d) 0 592)) S h, 0, 0) := by
  have l1 : ¬ (Int32.ofNat (d + 1) = Int32.ofNat 0) := by rw [i_eq (by omega) (by omega)]; omega
  have m1 : Int32.ofNat (d + 1) - Int32.ofNat 1 = Int32.ofNat d := by rw [i_sub (by omega)]; rfl
  have e := t_copies_31 (Γ := Γ) (n := n) (m := m) (I := va_up (va_up I 0 (Int32.ofNat 0)) 4 (Int32.ofNat d)) (A := A) (S := S) (h := h) (oa := 592 * d) (ob := 0) (by omega) (by omega)
  simp (maxDischargeDepth := 9) only [fX3_undo, xbind, xlet, xpure, tw_sel, tg_0, tg_4, tg_9, tg_12, tg_13, tg_14, tg_15, tg_16, tg_17, tg_18, tg_19, tg_20, tg_21, tg_24, tr_1, tr_2, tr_3, tr_5, tr_6, tr_7, tr_8, tr_10, tr_11, tr_22, tr_23, tp_0, tp_4, tp_9, tp_12, tp_13, tp_14, tp_15, tp_16, tp_17, tp_18, tp_19, tp_20, tp_21, tp_24, va_up_self, va_up_ne, va_uu, i_ofNat, i_add, i_mul, Nat.add_zero, Nat.zero_add, reduceIte, if_true, if_false, Nat.reduceEqDiff, ne_eq, not_false_eq_true, Nat.reduceEqDiff, not_true_eq_false, hd, l1, m1, e]
section ACT
variable {I : Nat → Int32} {A : Nat → Nat → Int32} {d s o x : Nat}
/-- the numbers behind an action that is kept -/
abbrev kI (I : Nat → Int32) (d : Nat) : Nat → Int32 := va_up (va_up I 0 (Int32.ofNat 0)) 4 (Int32.ofNat (pDp d))
abbrev kA (A : Nat → Nat → Int32) (d : Nat) (N : Nat → Int32) : Nat → Nat → Int32 := va_up (va_up A 3 (pPast (A 3) (A 1) d)) 1 N
theorem t_keeps0 (hd : I 4 = Int32.ofNat d) (hd8 : d ≤ 8) : fX3_keeps m Γ (tw m (va_up I 0 (Int32.ofNat 0)) A S h) n = some (.inl (), tw m (kI I d) (va_up A 3 (pPast (A 3) (A 1) d)) S h, 0, 0) := by
  have e := t_keeps (Γ := Γ) (n := n) (m := m) (I := va_up I 0 (Int32.ofNat 0)) (A := A) (S := S) (h := h) (d := d) (by rw [va_up_ne _ _ (by omega)]; exact hd) hd8
  exact e
theorem t_take_no (ok : okN (A 1)) {p q v : Int32} (hp : ¬ vA (A 1) p q) : fX3_take m p q v Γ (tw m I A S h) n = some (.inl (Int32.ofNat 0), tw m (va_up I 0 (Int32.ofNat 1)) A S h, 0, 0) := by
  have e0 := t_noAge0 (Γ := Γ) (n := n) (m := m) (I := va_up I 0 (Int32.ofNat 0)) (S := S) (h := h) ok hp
  simp (maxDischargeDepth := 9) only [fX3_take_p57, fX3_take_p52, fX3_take_p25, fX3_take, xbind, xlet, xpure, tw_sel, tg_0, tg_4, tg_9, tg_12, tg_13, tg_14, tg_15, tg_16, tg_17, tg_18, tg_19, tg_20, tg_21, tg_24, tr_1, tr_2, tr_3, tr_5, tr_6, tr_7, tr_8, tr_10, tr_11, tr_22, tr_23, tp_0, tp_4, tp_9, tp_12, tp_13, tp_14, tp_15, tp_16, tp_17, tp_18, tp_19, tp_20, tp_21, tp_24, va_up_self, va_up_ne, va_uu, i_ofNat, i_add, i_mul, Nat.add_zero, Nat.zero_add, reduceIte, if_true, if_false, Nat.reduceEqDiff, ne_eq, not_false_eq_true, Nat.reduceEqDiff, not_true_eq_false, e0, i_10]
theorem t_take2 (ok : okN (A 1)) (hs : s < nn (A 1 0)) (hx : x ≤ nn (A 1 (zI s 1))) {v : Int32} (hv : ¬ Int32.ofNat 1 ≤ v) : fX3_take m (Int32.ofNat s) (Int32.ofNat x) v Γ (tw m I A S h) n = some (.inl (Int32.ofNat 0), tw m (va_up I 0 (Int32.ofNat 2)) A S h, 0, 0) := by
  have e0 := t_noAge1 (Γ := Γ) (n := n) (m := m) (I := va_up I 0 (Int32.ofNat 0)) (S := S) (h := h) ok hs hx
  simp (maxDischargeDepth := 9) only [fX3_take_p57, fX3_take_p52, fX3_take_p25, fX3_take, xbind, xlet, xpure, tw_sel, tg_0, tg_4, tg_9, tg_12, tg_13, tg_14, tg_15, tg_16, tg_17, tg_18, tg_19, tg_20, tg_21, tg_24, tr_1, tr_2, tr_3, tr_5, tr_6, tr_7, tr_8, tr_10, tr_11, tr_22, tr_23, tp_0, tp_4, tp_9, tp_12, tp_13, tp_14, tp_15, tp_16, tp_17, tp_18, tp_19, tp_20, tp_21, tp_24, va_up_self, va_up_ne, va_uu, i_ofNat, i_add, i_mul, Nat.add_zero, Nat.zero_add, reduceIte, if_true, if_false, Nat.reduceEqDiff, ne_eq, not_false_eq_true, Nat.reduceEqDiff, not_true_eq_false, e0, i_10, hv, t_throws1]
theorem t_take3 (ok : okN (A 1)) (hs : s < nn (A 1 0)) (hx : x ≤ nn (A 1 (zI s 1))) {v : Int32} (hv : Int32.ofNat 1 ≤ v) (hc : ¬ (¬ A 1 (zI s (39 + x)) < v ∧ v ≤ imax (Int32.ofNat 0) (A 1 (zI s 5) - A 1 (zI s 10)))) : fX3_take m (Int32.ofNat s) (Int32.ofNat x) v Γ (tw m I A S h) n = some (.inl (Int32.ofNat 0), tw m (va_up I 0 (Int32.ofNat 3)) A S h, 0, 0) := by
  have b := t_hx12 ok hs hx
  have e0 := t_noAge1 (Γ := Γ) (n := n) (m := m) (I := va_up I 0 (Int32.ofNat 0)) (S := S) (h := h) ok hs hx
  have e1 := t_cohortOf (Γ := Γ) (n := n) (m := m) (I := va_up I 0 (Int32.ofNat 0)) (A := A) (S := S) (h := h) b.1 (show x < 93 by omega)
  have e2 := t_leftOf (Γ := Γ) (n := n) (m := m) (I := va_up I 0 (Int32.ofNat 0)) (A := A) (S := S) (h := h) b.1
  by_cases c1 : A 1 (zI s (39 + x)) < v
  · simp (maxDischargeDepth := 9) only [fX3_take_p57, fX3_take_p52, fX3_take_p25, fX3_take, xbind, xlet, xpure, tw_sel, tg_0, tg_4, tg_9, tg_12, tg_13, tg_14, tg_15, tg_16, tg_17, tg_18, tg_19, tg_20, tg_21, tg_24, tr_1, tr_2, tr_3, tr_5, tr_6, tr_7, tr_8, tr_10, tr_11, tr_22, tr_23, tp_0, tp_4, tp_9, tp_12, tp_13, tp_14, tp_15, tp_16, tp_17, tp_18, tp_19, tp_20, tp_21, tp_24, va_up_self, va_up_ne, va_uu, i_ofNat, i_add, i_mul, Nat.add_zero, Nat.zero_add, reduceIte, if_true, if_false, Nat.reduceEqDiff, ne_eq, not_false_eq_true, Nat.reduceEqDiff, not_true_eq_false, e0, i_10, hv, t_throws0, e1, c1, t_throws1]
  · have c2 : ¬ v ≤ imax (Int32.ofNat 0) (A 1 (zI s 5) - A 1 (zI s 10)) := fun q => hc ⟨c1, q⟩
    simp (maxDischargeDepth := 9) only [fX3_take_p57, fX3_take_p52, fX3_take_p25, fX3_take, xbind, xlet, xpure, tw_sel, tg_0, tg_4, tg_9, tg_12, tg_13, tg_14, tg_15, tg_16, tg_17, tg_18, tg_19, tg_20, tg_21, tg_24, tr_1, tr_2, tr_3, tr_5, tr_6, tr_7, tr_8, tr_10, tr_11, tr_22, tr_23, tp_0, tp_4, tp_9, tp_12, tp_13, tp_14, tp_15, tp_16, tp_17, tp_18, tp_19, tp_20, tp_21, tp_24, va_up_self, va_up_ne, va_uu, i_ofNat, i_add, i_mul, Nat.add_zero, Nat.zero_add, reduceIte, if_true, if_false, Nat.reduceEqDiff, ne_eq, not_false_eq_true, Nat.reduceEqDiff, not_true_eq_false, e0, i_10, hv, t_throws0, e1, c1, e2, c2, t_throws1]
theorem t_take1 (ok : okN (A 1)) (hd : I 4 = Int32.ofNat d) (hd8 : d ≤ 8) (hs : s < nn (A 1 0)) (hx : x ≤ nn (A 1 (zI s 1))) (ho : nn (A 1 (zI s 1)) = o) {v : Int32} (hv : Int32.ofNat 1 ≤ v) (c1 : ¬ A 1 (zI s (39 + x)) < v) (c2 : v ≤ imax (Int32.ofNat 0) (A 1 (zI s 5) - A 1 (zI s 10))) : fX3_take m (Int32.ofNat s) (Int32.ofNat x) v Γ (tw m I A S h) n = some (.inl (imax (Int32.ofNat 0) (pTake (A 1) s o x v (zI s 5) - pTake (A 1) s o x v (zI s 10))), tw m (kI I d) (kA A d (pTake (A 1) s o x v)) S h, 0, 0) := by
  have b := t_hx12 ok hs hx
  obtain ⟨a1, a2, -⟩ := ok.2.2.2.2.2.2.2.2.1 s hs
  unfold nN at a1
  rw [ho] at a1 a2
  have e0 := t_noAge1 (Γ := Γ) (n := n) (m := m) (I := va_up I 0 (Int32.ofNat 0)) (S := S) (h := h) ok hs hx
  have e1 := t_cohortOf (Γ := Γ) (n := n) (m := m) (I := va_up I 0 (Int32.ofNat 0)) (A := A) (S := S) (h := h) b.1 (show x < 93 by omega)
  have e2 := t_leftOf (Γ := Γ) (n := n) (m := m) (I := va_up I 0 (Int32.ofNat 0)) (A := A) (S := S) (h := h) b.1
  have e3 := t_keeps0 (Γ := Γ) (n := n) (m := m) (I := I) (A := A) (S := S) (h := h) hd hd8
  have e4 := t_takesOut (Γ := Γ) (n := n) (m := m) (I := kI I d) (A := va_up A 3 (pPast (A 3) (A 1) d)) (S := S) (h := h) (x := x) b.1 (by rw [va_up_ne _ _ (by omega)]; exact a1) a2 (by omega) v
  have e5 := t_leftOf (Γ := Γ) (n := n) (m := m) (I := kI I d) (A := kA A d (pTake (A 1) s o x v)) (S := S) (h := h) b.1
  simp (maxDischargeDepth := 9) only [xbind, xlet, xpure, tw_sel, tg_0, tg_4, tg_9, tg_12, tg_13, tg_14, tg_15, tg_16, tg_17, tg_18, tg_19, tg_20, tg_21, tg_24, tr_1, tr_2, tr_3, tr_5, tr_6, tr_7, tr_8, tr_10, tr_11, tr_22, tr_23, tp_0, tp_4, tp_9, tp_12, tp_13, tp_14, tp_15, tp_16, tp_17, tp_18, tp_19, tp_20, tp_21, tp_24, va_up_self, va_up_ne, va_uu, i_ofNat, i_add, i_mul, Nat.add_zero, Nat.zero_add, reduceIte, if_true, if_false, Nat.reduceEqDiff, ne_eq, not_false_eq_true, Nat.reduceEqDiff, not_true_eq_false] at e4 e5
  simp (maxDischargeDepth := 9) only [fX3_take_p57, fX3_take_p52, fX3_take_p25, fX3_take, xbind, xlet, xpure, tw_sel, tg_0, tg_4, tg_9, tg_12, tg_13, tg_14, tg_15, tg_16, tg_17, tg_18, tg_19, tg_20, tg_21, tg_24, tr_1, tr_2, tr_3, tr_5, tr_6, tr_7, tr_8, tr_10, tr_11, tr_22, tr_23, tp_0, tp_4, tp_9, tp_12, tp_13, tp_14, tp_15, tp_16, tp_17, tp_18, tp_19, tp_20, tp_21, tp_24, va_up_self, va_up_ne, va_uu, i_ofNat, i_add, i_mul, Nat.add_zero, Nat.zero_add, reduceIte, if_true, if_false, Nat.reduceEqDiff, ne_eq, not_false_eq_true, Nat.reduceEqDiff, not_true_eq_false, e0, i_10, hv, t_throws0, e1, c1, e2, c2, e3, e4, e5]
end ACT
end TW14
