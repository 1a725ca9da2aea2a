/-! part 429: the twin: totalIn, below, steadyTake, closingUpTo -/
def pBin (f : Nat → Bool) : Nat → Nat → Nat → Nat
  | 0, lo, _ => lo
  | k + 1, lo, hi => if hi ≤ lo + 1 then lo else if f ((lo + hi) / 2) then pBin f k ((lo + hi) / 2) hi else pBin f k lo ((lo + hi) / 2)
section TW20
variable {Γ : Nat → Option Nat} {m n : Nat} {I : Nat → Int32} {S : Nat → Int64} {h : xH} {s o a : Nat}
theorem t_noYears1 {A : Nat → Nat → Int32} {y lo hi : Nat} (h1 : lo ≤ y) (h2 : y ≤ hi) (hh : hi < 1000) : fX3_noYears m (Int32.ofNat y) (Int32.ofNat lo) (Int32.ofNat hi) Γ (tw m I A S h) n = some (.inl (Int32.ofNat 0), tw m I A S h, 0, 0) := by
  have e1 := t_in1 (Γ := Γ) (h := tw m I A S h) (n := n) (a := (Int32.ofNat y).toInt64) (b := (Int32.ofNat lo).toInt64) (c := (Int32.ofNat hi).toInt64) (by rw [Int32.toInt_toInt64, Int32.toInt_toInt64, i_toInt (by omega), i_toInt (by omega)]; omega) (by rw [Int32.toInt_toInt64, Int32.toInt_toInt64, i_toInt (by omega), i_toInt (by omega)]; omega)
  simp (maxDischargeDepth := 9) only [fX3_noYears_p18, fX3_noYears, xbind, xlet, xpure, tw_sel, tg_0, tg_4, tg_9, tg_12, tg_13, tg_14, tg_15, tg_16, tg_17, tg_18, tg_19, tg_20, tg_21, tg_24, tr_1, tr_2, tr_3, tr_5, tr_6, tr_7, tr_8, tr_10, tr_11, tr_22, tr_23, tp_0, tp_4, tp_9, tp_12, tp_13, tp_14, tp_15, tp_16, tp_17, tp_18, tp_19, tp_20, tp_21, tp_24, va_up_self, va_up_ne, va_uu, i_ofNat, i_add, i_mul, Nat.add_zero, Nat.zero_add, reduceIte, if_true, if_false, Nat.reduceEqDiff, ne_eq, not_false_eq_true, Nat.reduceEqDiff, not_true_eq_false, e1, i_10, t_throws0, x_ret0]
theorem t_noYears0 {A : Nat → Nat → Int32} {p : Int32} {lo hi : Nat} (hl : lo < 1000) (hh : hi < 1000) (hp : ¬ ((lo : Int) ≤ p.toInt ∧ p.toInt ≤ hi)) : fX3_noYears m p (Int32.ofNat lo) (Int32.ofNat hi) Γ (tw m I A S h) n = some (.inl (Int32.ofNat 1), tw m (va_up I 0 (Int32.ofNat 2)) A S h, 0, 0) := by
  have e1 := t_in0 (Γ := Γ) (h := tw m I A S h) (n := n) (a := p.toInt64) (b := (Int32.ofNat lo).toInt64) (c := (Int32.ofNat hi).toInt64) (by rw [Int32.toInt_toInt64, Int32.toInt_toInt64, Int32.toInt_toInt64, i_toInt (by omega), i_toInt (by omega)]; exact hp)
  simp (maxDischargeDepth := 9) only [fX3_noYears_p18, fX3_noYears, xbind, xlet, xpure, tw_sel, tg_0, tg_4, tg_9, tg_12, tg_13, tg_14, tg_15, tg_16, tg_17, tg_18, tg_19, tg_20, tg_21, tg_24, tr_1, tr_2, tr_3, tr_5, tr_6, tr_7, tr_8, tr_10, tr_11, tr_22, tr_23, tp_0, tp_4, tp_9, tp_12, tp_13, tp_14, tp_15, tp_16, tp_17, tp_18, tp_19, tp_20, tp_21, tp_24, va_up_self, va_up_ne, va_uu, i_ofNat, i_add, i_mul, Nat.add_zero, Nat.zero_add, reduceIte, if_true, if_false, Nat.reduceEqDiff, ne_eq, not_false_eq_true, Nat.reduceEqDiff, not_true_eq_false, e1, t_throws1, x_ret1]
theorem t_totalIn_no {A : Nat → Nat → Int32} (ok : okN (A 1)) {p q : Int32} (hp : ¬ vS (A 1) p) : fX3_totalIn m p q Γ (tw m I A S h) n = some (.inl (Int32.ofNat 0), tw m (va_up I 0 (Int32.ofNat 1)) A S h, 0, 0) := by
  have e0 := t_noSpecies0 (Γ := Γ) (n := n) (m := m) (I := va_up I 0 (Int32.ofNat 0)) (S := S) (h := h) ok hp
  simp (maxDischargeDepth := 9) only [fX3_totalIn_p24, fX3_totalIn, xbind, xlet, xpure, tw_sel, tg_0, tg_4, tg_9, tg_12, tg_13, tg_14, tg_15, tg_16, tg_17, tg_18, tg_19, tg_20, tg_21, tg_24, tr_1, tr_2, tr_3, tr_5, tr_6, tr_7, tr_8, tr_10, tr_11, tr_22, tr_23, tp_0, tp_4, tp_9, tp_12, tp_13, tp_14, tp_15, tp_16, tp_17, tp_18, tp_19, tp_20, tp_21, tp_24, va_up_self, va_up_ne, va_uu, i_ofNat, i_add, i_mul, Nat.add_zero, Nat.zero_add, reduceIte, if_true, if_false, Nat.reduceEqDiff, ne_eq, not_false_eq_true, Nat.reduceEqDiff, not_true_eq_false, e0, i_10]
theorem t_totalIn2 {A : Nat → Nat → Int32} (ok : okN (A 1)) {p q : Int32} (hp : vS (A 1) p) (hq : ¬ (0 ≤ q.toInt ∧ q.toInt ≤ 50)) : fX3_totalIn m p q Γ (tw m I A S h) n = some (.inl (Int32.ofNat 0), tw m (va_up I 0 (Int32.ofNat 2)) A S h, 0, 0) := by
  have e0 := t_noSpecies1 (Γ := Γ) (n := n) (m := m) (I := va_up I 0 (Int32.ofNat 0)) (S := S) (h := h) ok hp
  have e1 := t_noYears0 (Γ := Γ) (n := n) (m := m) (I := va_up I 0 (Int32.ofNat 0)) (A := A) (S := S) (h := h) (p := q) (lo := 0) (hi := 50) (by omega) (by omega) hq
  simp (maxDischargeDepth := 9) only [fX3_totalIn_p24, fX3_totalIn, xbind, xlet, xpure, tw_sel, tg_0, tg_4, tg_9, tg_12, tg_13, tg_14, tg_15, tg_16, tg_17, tg_18, tg_19, tg_20, tg_21, tg_24, tr_1, tr_2, tr_3, tr_5, tr_6, tr_7, tr_8, tr_10, tr_11, tr_22, tr_23, tp_0, tp_4, tp_9, tp_12, tp_13, tp_14, tp_15, tp_16, tp_17, tp_18, tp_19, tp_20, tp_21, tp_24, va_up_self, va_up_ne, va_uu, i_ofNat, i_add, i_mul, Nat.add_zero, Nat.zero_add, reduceIte, if_true, if_false, Nat.reduceEqDiff, ne_eq, not_false_eq_true, Nat.reduceEqDiff, not_true_eq_false, e0, e1, i_10]
theorem t_totalIn1 {A : Nat → Nat → Int32} (ok : okN (A 1)) (hs : s < nn (A 1 0)) (ho : nn (A 1 (zI s 1)) = o) {y : Nat} (hy : y ≤ 50) : fX3_totalIn m (Int32.ofNat s) (Int32.ofNat y) Γ (tw m I A S h) n = some (.inl (pTot (pGoes s o y (A 1)) s o), tw m (va_up I 0 (Int32.ofNat 0)) (va_up A 2 (pCpy (A 1) (A 2) 0 0 592)) S h, 0, 0) := by
  have h4 := ok.2.1
  obtain ⟨a1, a2, -⟩ := ok.2.2.2.2.2.2.2.2.1 s hs
  unfold nN at a1
  rw [ho] at a1 a2
  have e0 := t_noSpecies1 (Γ := Γ) (n := n) (m := m) (I := va_up I 0 (Int32.ofNat 0)) (S := S) (h := h) ok (vS_of hs h4)
  have e1 := t_noYears1 (Γ := Γ) (n := n) (m := m) (I := va_up I 0 (Int32.ofNat 0)) (A := A) (S := S) (h := h) (lo := 0) (hi := 50) (Nat.zero_le y) hy (by omega)
  have e2 := t_totalBehind (Γ := Γ) (n := n) (m := m) (I := va_up I 0 (Int32.ofNat 0)) (A := A) (S := S) (h := h) (show s < 4 by omega) a1 a2 (show y < 1000 by omega)
  simp (maxDischargeDepth := 9) only [fX3_totalIn_p24, fX3_totalIn, xbind, xlet, xpure, tw_sel, tg_0, tg_4, tg_9, tg_12, tg_13, tg_14, tg_15, tg_16, tg_17, tg_18, tg_19, tg_20, tg_21, tg_24, tr_1, tr_2, tr_3, tr_5, tr_6, tr_7, tr_8, tr_10, tr_11, tr_22, tr_23, tp_0, tp_4, tp_9, tp_12, tp_13, tp_14, tp_15, tp_16, tp_17, tp_18, tp_19, tp_20, tp_21, tp_24, va_up_self, va_up_ne, va_uu, i_ofNat, i_add, i_mul, Nat.add_zero, Nat.zero_add, reduceIte, if_true, if_false, Nat.reduceEqDiff, ne_eq, not_false_eq_true, Nat.reduceEqDiff, not_true_eq_false, e0, e1, e2]
theorem t_below_p24 (hs : s < 4) (ho' : o ≤ 12) (least : Int32) (N0 : Nat → Int32) : ∀ (r x fu : Nat) (A : Nat → Nat → Int32), A 1 (zI s 1) = Int32.ofNat o → A 2 = pCpy N0 (A 2) 0 0 592 → (∀ j, 592 ≤ j → A 1 j = N0 j) → x + r = 51 → r + 1 < fu →
    fX3_below_p24 fu m (Int32.ofNat s) least (-Int32.ofNat 1) (Int32.ofNat x) Γ (tw m I A S h) n = some (.inl (o2i (pBel s o least r x (A 1))), tw m I (va_up A 1 N0) S h, 0, 0) := by
  have hback : ∀ (B : Nat → Nat → Int32), B 2 = pCpy N0 (B 2) 0 0 592 → (∀ j, 592 ≤ j → B 1 j = N0 j) → pCpy (B 2) (B 1) 0 0 592 = N0 := by
    intro B h1 h2
    rw [h1]
    exact pCpy_back h2
  intro r
  induction r with
  | zero =>
    intro x fu A ho h2 hj hx hf
    obtain ⟨fu, rfl⟩ : ∃ g, fu = g + 1 := ⟨fu - 1, by omega⟩
    have c1 : Int32.ofNat 50 < Int32.ofNat x := by rw [i_lt (by omega) (by omega)]; omega
    have e1 := t_takesBack (Γ := Γ) (n := n) (m := m) (I := I) (A := A) (S := S) (h := h)
    rw [hback A h2 hj] at e1
    rw [fX3_below_p24]
    simp (maxDischargeDepth := 9) only [xbind, xlet, xpure, tw_sel, tg_0, tg_4, tg_9, tg_12, tg_13, tg_14, tg_15, tg_16, tg_17, tg_18, tg_19, tg_20, tg_21, tg_24, tr_1, tr_2, tr_3, tr_5, tr_6, tr_7, tr_8, tr_10, tr_11, tr_22, tr_23, tp_0, tp_4, tp_9, tp_12, tp_13, tp_14, tp_15, tp_16, tp_17, tp_18, tp_19, tp_20, tp_21, tp_24, va_up_self, va_up_ne, va_uu, i_ofNat, i_add, i_mul, Nat.add_zero, Nat.zero_add, reduceIte, if_true, if_false, Nat.reduceEqDiff, ne_eq, not_false_eq_true, Nat.reduceEqDiff, not_true_eq_false, c1, fX3_below_p59, e1, pBel, o2i]
  | succ r ih =>
    intro x fu A ho h2 hj hx hf
    obtain ⟨fu, rfl⟩ : ∃ g, fu = g + 1 := ⟨fu - 1, by omega⟩
    have c1 : ¬ Int32.ofNat 50 < Int32.ofNat x := by rw [i_lt (by omega) (by omega)]; omega
    have e1 := t_totalOf (Γ := Γ) (n := n) (m := m) (I := I) (A := A) (S := S) (h := h) hs ho ho'
    have e2 := t_ages (Γ := Γ) (n := n) (m := m) (I := I) (A := A) (S := S) (h := h) hs ho ho'
    have k2 : ∀ j, (∀ b, 3 ≤ b → b < 52 → j ≠ zI s b) → pAges (A 1) s o j = A 1 j := fun j hb => pAges_ne ho' hb
    have hq2 : (va_up A 1 (pAges (A 1) s o)) 2 = pCpy N0 ((va_up A 1 (pAges (A 1) s o)) 2) 0 0 592 := by rw [va_up_ne _ _ (by omega)]; exact h2
    have hqj : ∀ j, 592 ≤ j → (va_up A 1 (pAges (A 1) s o)) 1 j = N0 j := by
      intro j h592
      rw [va_up_self, k2 j (fun b h1 h2 => by unfold zI; omega)]
      exact hj j h592
    rw [fX3_below_p24]
    by_cases c2 : pTot (A 1) s o < least
    · have c3 : ¬ least ≤ pTot (A 1) s o := Int32.not_le.mpr c2
      obtain ⟨fu, rfl⟩ : ∃ g, fu = g + 1 := ⟨fu - 1, by omega⟩
      have hp : pBel s o least (r + 1) x (A 1) = some x := by
        unfold pBel
        exact if_pos c2
      have e3 := t_takesBack (Γ := Γ) (n := n) (m := m) (I := I) (A := va_up A 1 (pAges (A 1) s o)) (S := S) (h := h)
      rw [hback _ hq2 hqj] at e3
      have e4 : fX3_below_p24 (fu + 1) m (Int32.ofNat s) least (Int32.ofNat x) (Int32.ofNat (x + 1)) Γ (tw m I (va_up A 1 (pAges (A 1) s o)) S h) n = some (.inl (Int32.ofNat x), tw m I (va_up A 1 N0) S h, 0, 0) := by
        have d2 := i_neg1 (show x < 2147483648 by omega)
        rw [fX3_below_p24]
        by_cases d1 : Int32.ofNat 50 < Int32.ofNat (x + 1)
        · simp (maxDischargeDepth := 9) only [xbind, xlet, xpure, tw_sel, tg_0, tg_4, tg_9, tg_12, tg_13, tg_14, tg_15, tg_16, tg_17, tg_18, tg_19, tg_20, tg_21, tg_24, tr_1, tr_2, tr_3, tr_5, tr_6, tr_7, tr_8, tr_10, tr_11, tr_22, tr_23, tp_0, tp_4, tp_9, tp_12, tp_13, tp_14, tp_15, tp_16, tp_17, tp_18, tp_19, tp_20, tp_21, tp_24, va_up_self, va_up_ne, va_uu, i_ofNat, i_add, i_mul, Nat.add_zero, Nat.zero_add, reduceIte, if_true, if_false, Nat.reduceEqDiff, ne_eq, not_false_eq_true, Nat.reduceEqDiff, not_true_eq_false, d1, fX3_below_p59, e3]
        · simp (maxDischargeDepth := 9) only [xbind, xlet, xpure, tw_sel, tg_0, tg_4, tg_9, tg_12, tg_13, tg_14, tg_15, tg_16, tg_17, tg_18, tg_19, tg_20, tg_21, tg_24, tr_1, tr_2, tr_3, tr_5, tr_6, tr_7, tr_8, tr_10, tr_11, tr_22, tr_23, tp_0, tp_4, tp_9, tp_12, tp_13, tp_14, tp_15, tp_16, tp_17, tp_18, tp_19, tp_20, tp_21, tp_24, va_up_self, va_up_ne, va_uu, i_ofNat, i_add, i_mul, Nat.add_zero, Nat.zero_add, reduceIte, if_true, if_false, Nat.reduceEqDiff, ne_eq, not_false_eq_true, Nat.reduceEqDiff, not_true_eq_false, d1, d2, fX3_below_p59, e3]
      simp (maxDischargeDepth := 9) only [xbind, xlet, xpure, tw_sel, tg_0, tg_4, tg_9, tg_12, tg_13, tg_14, tg_15, tg_16, tg_17, tg_18, tg_19, tg_20, tg_21, tg_24, tr_1, tr_2, tr_3, tr_5, tr_6, tr_7, tr_8, tr_10, tr_11, tr_22, tr_23, tp_0, tp_4, tp_9, tp_12, tp_13, tp_14, tp_15, tp_16, tp_17, tp_18, tp_19, tp_20, tp_21, tp_24, va_up_self, va_up_ne, va_uu, i_ofNat, i_add, i_mul, Nat.add_zero, Nat.zero_add, reduceIte, if_true, if_false, Nat.reduceEqDiff, ne_eq, not_false_eq_true, Nat.reduceEqDiff, not_true_eq_false, c1, e1, c3, fX3_below_p48, e2, e4, hp, o2i]
    · have c3 : least ≤ pTot (A 1) s o := Int32.not_lt.mp c2
      have hp : pBel s o least (r + 1) x (A 1) = pBel s o least r (x + 1) (pAges (A 1) s o) := by
        conv => lhs; unfold pBel
        exact if_neg c2
      have e4 := ih (x + 1) fu (va_up A 1 (pAges (A 1) s o)) (by rw [va_up_self, k2 _ (fun b h1 h2 => zI_ne (by omega))]; exact ho) hq2 hqj (by omega) (by omega)
      simp (maxDischargeDepth := 9) only [xbind, xlet, xpure, tw_sel, tg_0, tg_4, tg_9, tg_12, tg_13, tg_14, tg_15, tg_16, tg_17, tg_18, tg_19, tg_20, tg_21, tg_24, tr_1, tr_2, tr_3, tr_5, tr_6, tr_7, tr_8, tr_10, tr_11, tr_22, tr_23, tp_0, tp_4, tp_9, tp_12, tp_13, tp_14, tp_15, tp_16, tp_17, tp_18, tp_19, tp_20, tp_21, tp_24, va_up_self, va_up_ne, va_uu, i_ofNat, i_add, i_mul, Nat.add_zero, Nat.zero_add, reduceIte, if_true, if_false, Nat.reduceEqDiff, ne_eq, not_false_eq_true, Nat.reduceEqDiff, not_true_eq_false] at e4
      simp (maxDischargeDepth := 9) only [xbind, xlet, xpure, tw_sel, tg_0, tg_4, tg_9, tg_12, tg_13, tg_14, tg_15, tg_16, tg_17, tg_18, tg_19, tg_20, tg_21, tg_24, tr_1, tr_2, tr_3, tr_5, tr_6, tr_7, tr_8, tr_10, tr_11, tr_22, tr_23, tp_0, tp_4, tp_9, tp_12, tp_13, tp_14, tp_15, tp_16, tp_17, tp_18, tp_19, tp_20, tp_21, tp_24, va_up_self, va_up_ne, va_uu, i_ofNat, i_add, i_mul, Nat.add_zero, Nat.zero_add, reduceIte, if_true, if_false, Nat.reduceEqDiff, ne_eq, not_false_eq_true, Nat.reduceEqDiff, not_true_eq_false, c1, e1, c3, fX3_below_p48, e2, e4, hp]
theorem pCpy_same {f g : Nat → Int32} : pCpy f g 0 0 592 = pCpy f (pCpy f g 0 0 592) 0 0 592 := by
  funext j
  unfold pCpy
  by_cases hj : 0 ≤ j ∧ j < 0 + 592
  · rw [if_pos hj, if_pos hj]
  · rw [if_neg hj, if_neg hj]
theorem t_below_no {A : Nat → Nat → Int32} (ok : okN (A 1)) {p q : Int32} (hp : ¬ vS (A 1) p) : fX3_below m p q Γ (tw m I A S h) n = some (.inl (Int32.ofNat 0), tw m (va_up I 0 (Int32.ofNat 1)) A S h, 0, 0) := by
  have e0 := t_noSpecies0 (Γ := Γ) (n := n) (m := m) (I := va_up I 0 (Int32.ofNat 0)) (S := S) (h := h) ok hp
  simp (maxDischargeDepth := 9) only [fX3_below_p48, fX3_below_p59, fX3_below, xbind, xlet, xpure, tw_sel, tg_0, tg_4, tg_9, tg_12, tg_13, tg_14, tg_15, tg_16, tg_17, tg_18, tg_19, tg_20, tg_21, tg_24, tr_1, tr_2, tr_3, tr_5, tr_6, tr_7, tr_8, tr_10, tr_11, tr_22, tr_23, tp_0, tp_4, tp_9, tp_12, tp_13, tp_14, tp_15, tp_16, tp_17, tp_18, tp_19, tp_20, tp_21, tp_24, va_up_self, va_up_ne, va_uu, i_ofNat, i_add, i_mul, Nat.add_zero, Nat.zero_add, reduceIte, if_true, if_false, Nat.reduceEqDiff, ne_eq, not_false_eq_true, Nat.reduceEqDiff, not_true_eq_false, e0, i_10]
theorem t_below1 {A : Nat → Nat → Int32} (ok : okN (A 1)) (hs : s < nn (A 1 0)) (ho : nn (A 1 (zI s 1)) = o) (least : Int32) : fX3_below m (Int32.ofNat s) least Γ (tw m I A S h) n = some (.inl (o2i (pBel s o least 51 0 (A 1))), tw m (va_up I 0 (Int32.ofNat 0)) (va_up A 2 (pCpy (A 1) (A 2) 0 0 592)) S h, 0, 0) := by
  have h4 := ok.2.1
  obtain ⟨a1, a2, -⟩ := ok.2.2.2.2.2.2.2.2.1 s hs
  unfold nN at a1
  rw [ho] at a1 a2
  have e0 := t_noSpecies1 (Γ := Γ) (n := n) (m := m) (I := va_up I 0 (Int32.ofNat 0)) (S := S) (h := h) ok (vS_of hs h4)
  have e1 := t_putsAside (Γ := Γ) (n := n) (m := m) (I := va_up I 0 (Int32.ofNat 0)) (A := A) (S := S) (h := h)
  have e2 := t_below_p24 (Γ := Γ) (n := n) (m := m) (I := va_up I 0 (Int32.ofNat 0)) (S := S) (h := h) (show s < 4 by omega) a2 least (A 1) 51 0 xFU (va_up A 2 (pCpy (A 1) (A 2) 0 0 592)) (by rw [va_up_ne _ _ (by omega)]; exact a1) (by rw [va_up_self]; exact pCpy_same) (by intro j hj; rw [va_up_ne _ _ (by omega)]) (by omega) (by unfold xFU; omega)
  have hA : va_up (va_up A 2 (pCpy (A 1) (A 2) 0 0 592)) 1 (A 1) = va_up A 2 (pCpy (A 1) (A 2) 0 0 592) := by
    rw [va_sw _ _ _ (by omega), va_id]
  rw [hA] at e2
  simp (maxDischargeDepth := 9) only [xbind, xlet, xpure, tw_sel, tg_0, tg_4, tg_9, tg_12, tg_13, tg_14, tg_15, tg_16, tg_17, tg_18, tg_19, tg_20, tg_21, tg_24, tr_1, tr_2, tr_3, tr_5, tr_6, tr_7, tr_8, tr_10, tr_11, tr_22, tr_23, tp_0, tp_4, tp_9, tp_12, tp_13, tp_14, tp_15, tp_16, tp_17, tp_18, tp_19, tp_20, tp_21, tp_24, va_up_self, va_up_ne, va_uu, i_ofNat, i_add, i_mul, Nat.add_zero, Nat.zero_add, reduceIte, if_true, if_false, Nat.reduceEqDiff, ne_eq, not_false_eq_true, Nat.reduceEqDiff, not_true_eq_false] at e2
  simp (maxDischargeDepth := 9) only [fX3_below_p48, fX3_below_p59, fX3_below, xbind, xlet, xpure, tw_sel, tg_0, tg_4, tg_9, tg_12, tg_13, tg_14, tg_15, tg_16, tg_17, tg_18, tg_19, tg_20, tg_21, tg_24, tr_1, tr_2, tr_3, tr_5, tr_6, tr_7, tr_8, tr_10, tr_11, tr_22, tr_23, tp_0, tp_4, tp_9, tp_12, tp_13, tp_14, tp_15, tp_16, tp_17, tp_18, tp_19, tp_20, tp_21, tp_24, va_up_self, va_up_ne, va_uu, i_ofNat, i_add, i_mul, Nat.add_zero, Nat.zero_add, reduceIte, if_true, if_false, Nat.reduceEqDiff, ne_eq, not_false_eq_true, Nat.reduceEqDiff, not_true_eq_false, e0, e1, e2]
theorem t_steadyTake_p69 (hs : s < 4) (ho' : o ≤ 12) (ha' : a ≤ o) (least : Int32) {y : Nat} (hy : y ≤ 30) (N : Nat → Int32) (ho : N (zI s 1) = Int32.ofNat o) (ha : N (zI s 2) = Int32.ofNat a) : ∀ (k lo hi fu : Nat) (A : Nat → Nat → Int32), A 1 = N → lo ≤ hi → hi - lo ≤ 2 ^ k → hi < 1000000000 → k < fu →
    ∃ X, fX3_steadyTake_p69 fu m (Int32.ofNat s) (Int32.ofNat y) least (Int32.ofNat lo) (Int32.ofNat hi) Γ (tw m I A S h) n = some (.inl (Int32.ofNat (pBin (fun c => pWrk s o a (Int32.ofNat c) least y N) k lo hi)), tw m I (va_up A 2 X) S h, 0, 0) := by
  intro k
  induction k with
  | zero =>
    intro lo hi fu A hA hlh hd hhi hf
    obtain ⟨fu, rfl⟩ : ∃ g, fu = g + 1 := ⟨fu - 1, by omega⟩
    have c1 : Int32.ofNat hi ≤ Int32.ofNat (lo + 1) := by rw [i_le (by omega) (by omega)]; omega
    refine ⟨A 2, ?_⟩
    rw [fX3_steadyTake_p69]
    simp (maxDischargeDepth := 9) only [xbind, xlet, xpure, tw_sel, tg_0, tg_4, tg_9, tg_12, tg_13, tg_14, tg_15, tg_16, tg_17, tg_18, tg_19, tg_20, tg_21, tg_24, tr_1, tr_2, tr_3, tr_5, tr_6, tr_7, tr_8, tr_10, tr_11, tr_22, tr_23, tp_0, tp_4, tp_9, tp_12, tp_13, tp_14, tp_15, tp_16, tp_17, tp_18, tp_19, tp_20, tp_21, tp_24, va_up_self, va_up_ne, va_uu, i_ofNat, i_add, i_mul, Nat.add_zero, Nat.zero_add, reduceIte, if_true, if_false, Nat.reduceEqDiff, ne_eq, not_false_eq_true, Nat.reduceEqDiff, not_true_eq_false, c1, pBin, va_id]
  | succ k ih =>
    intro lo hi fu A hA hlh hd hhi hf
    obtain ⟨fu, rfl⟩ : ∃ g, fu = g + 1 := ⟨fu - 1, by omega⟩
    rw [fX3_steadyTake_p69]
    unfold pBin
    by_cases c : hi ≤ lo + 1
    · have c1 : Int32.ofNat hi ≤ Int32.ofNat (lo + 1) := by rw [i_le (by omega) (by omega)]; omega
      refine ⟨A 2, ?_⟩
      rw [if_pos c]
      simp (maxDischargeDepth := 9) only [xbind, xlet, xpure, tw_sel, tg_0, tg_4, tg_9, tg_12, tg_13, tg_14, tg_15, tg_16, tg_17, tg_18, tg_19, tg_20, tg_21, tg_24, tr_1, tr_2, tr_3, tr_5, tr_6, tr_7, tr_8, tr_10, tr_11, tr_22, tr_23, tp_0, tp_4, tp_9, tp_12, tp_13, tp_14, tp_15, tp_16, tp_17, tp_18, tp_19, tp_20, tp_21, tp_24, va_up_self, va_up_ne, va_uu, i_ofNat, i_add, i_mul, Nat.add_zero, Nat.zero_add, reduceIte, if_true, if_false, Nat.reduceEqDiff, ne_eq, not_false_eq_true, Nat.reduceEqDiff, not_true_eq_false, c1, va_id]
    · have c1 : ¬ Int32.ofNat hi ≤ Int32.ofNat (lo + 1) := by rw [i_le (by omega) (by omega)]; omega
      have z2 : ¬ (Int32.ofNat 2 = Int32.ofNat 0) := by decide
      have m1 : Int32.ofNat (lo + hi) / Int32.ofNat 2 = Int32.ofNat ((lo + hi) / 2) := i_div (by omega) (by omega)
      have hp2 : 2 ^ (k + 1) = 2 * 2 ^ k := by rw [Nat.pow_succ, Nat.mul_comm]
      have e1 := t_works (Γ := Γ) (n := n) (m := m) (I := I) (A := A) (S := S) (h := h) hs (by rw [hA]; exact ho) ho' (by rw [hA]; exact ha) ha' (Int32.ofNat ((lo + hi) / 2)) least hy
      rw [hA] at e1
      rw [if_neg c]
      cases hw : pWrk s o a (Int32.ofNat ((lo + hi) / 2)) least y N
      · rw [hw, b2i_f] at e1
        obtain ⟨X, e2⟩ := ih lo ((lo + hi) / 2) fu (va_up A 2 (pCpy N (A 2) 0 0 592)) (by rw [va_up_ne _ _ (by omega)]; exact hA) (by omega) (by omega) (by omega) (by omega)
        refine ⟨X, ?_⟩
        simp (maxDischargeDepth := 9) only [xbind, xlet, xpure, tw_sel, tg_0, tg_4, tg_9, tg_12, tg_13, tg_14, tg_15, tg_16, tg_17, tg_18, tg_19, tg_20, tg_21, tg_24, tr_1, tr_2, tr_3, tr_5, tr_6, tr_7, tr_8, tr_10, tr_11, tr_22, tr_23, tp_0, tp_4, tp_9, tp_12, tp_13, tp_14, tp_15, tp_16, tp_17, tp_18, tp_19, tp_20, tp_21, tp_24, va_up_self, va_up_ne, va_uu, i_ofNat, i_add, i_mul, Nat.add_zero, Nat.zero_add, reduceIte, if_true, if_false, Nat.reduceEqDiff, ne_eq, not_false_eq_true, Nat.reduceEqDiff, not_true_eq_false] at e2
        simp (maxDischargeDepth := 9) only [xbind, xlet, xpure, tw_sel, tg_0, tg_4, tg_9, tg_12, tg_13, tg_14, tg_15, tg_16, tg_17, tg_18, tg_19, tg_20, tg_21, tg_24, tr_1, tr_2, tr_3, tr_5, tr_6, tr_7, tr_8, tr_10, tr_11, tr_22, tr_23, tp_0, tp_4, tp_9, tp_12, tp_13, tp_14, tp_15, tp_16, tp_17, tp_18, tp_19, tp_20, tp_21, tp_24, va_up_self, va_up_ne, va_uu, i_ofNat, i_add, i_mul, Nat.add_zero, Nat.zero_add, reduceIte, if_true, if_false, Nat.reduceEqDiff, ne_eq, not_false_eq_true, Nat.reduceEqDiff, not_true_eq_false, c1, xdv, z2, m1, e1, fX3_steadyTake_p110, e2, hw, Bool.false_eq_true]
      · rw [hw, b2i_t] at e1
        obtain ⟨X, e2⟩ := ih ((lo + hi) / 2) hi fu (va_up A 2 (pCpy N (A 2) 0 0 592)) (by rw [va_up_ne _ _ (by omega)]; exact hA) (by omega) (by omega) (by omega) (by omega)
        refine ⟨X, ?_⟩
        simp (maxDischargeDepth := 9) only [xbind, xlet, xpure, tw_sel, tg_0, tg_4, tg_9, tg_12, tg_13, tg_14, tg_15, tg_16, tg_17, tg_18, tg_19, tg_20, tg_21, tg_24, tr_1, tr_2, tr_3, tr_5, tr_6, tr_7, tr_8, tr_10, tr_11, tr_22, tr_23, tp_0, tp_4, tp_9, tp_12, tp_13, tp_14, tp_15, tp_16, tp_17, tp_18, tp_19, tp_20, tp_21, tp_24, va_up_self, va_up_ne, va_uu, i_ofNat, i_add, i_mul, Nat.add_zero, Nat.zero_add, reduceIte, if_true, if_false, Nat.reduceEqDiff, ne_eq, not_false_eq_true, Nat.reduceEqDiff, not_true_eq_false] at e2
        simp (maxDischargeDepth := 9) only [xbind, xlet, xpure, tw_sel, tg_0, tg_4, tg_9, tg_12, tg_13, tg_14, tg_15, tg_16, tg_17, tg_18, tg_19, tg_20, tg_21, tg_24, tr_1, tr_2, tr_3, tr_5, tr_6, tr_7, tr_8, tr_10, tr_11, tr_22, tr_23, tp_0, tp_4, tp_9, tp_12, tp_13, tp_14, tp_15, tp_16, tp_17, tp_18, tp_19, tp_20, tp_21, tp_24, va_up_self, va_up_ne, va_uu, i_ofNat, i_add, i_mul, Nat.add_zero, Nat.zero_add, reduceIte, if_true, if_false, Nat.reduceEqDiff, ne_eq, not_false_eq_true, Nat.reduceEqDiff, not_true_eq_false, c1, xdv, z2, m1, e1, i_10, fX3_steadyTake_p110, e2, hw]
theorem t_steadyTake_no {A : Nat → Nat → Int32} (ok : okN (A 1)) {p q r : Int32} (hp : ¬ vS (A 1) p) : fX3_steadyTake m p q r Γ (tw m I A S h) n = some (.inl (Int32.ofNat 0), tw m (va_up I 0 (Int32.ofNat 1)) A S h, 0, 0) := by
  have e0 := t_noSpecies0 (Γ := Γ) (n := n) (m := m) (I := va_up I 0 (Int32.ofNat 0)) (S := S) (h := h) ok hp
  simp (maxDischargeDepth := 9) only [fX3_steadyTake_p110, fX3_steadyTake_p35, fX3_steadyTake_p30, fX3_steadyTake, xbind, xlet, xpure, tw_sel, tg_0, tg_4, tg_9, tg_12, tg_13, tg_14, tg_15, tg_16, tg_17, tg_18, tg_19, tg_20, tg_21, tg_24, tr_1, tr_2, tr_3, tr_5, tr_6, tr_7, tr_8, tr_10, tr_11, tr_22, tr_23, tp_0, tp_4, tp_9, tp_12, tp_13, tp_14, tp_15, tp_16, tp_17, tp_18, tp_19, tp_20, tp_21, tp_24, va_up_self, va_up_ne, va_uu, i_ofNat, i_add, i_mul, Nat.add_zero, Nat.zero_add, reduceIte, if_true, if_false, Nat.reduceEqDiff, ne_eq, not_false_eq_true, Nat.reduceEqDiff, not_true_eq_false, e0, i_10]
theorem t_steadyTake2 {A : Nat → Nat → Int32} (ok : okN (A 1)) {p q r : Int32} (hp : vS (A 1) p) (hq : ¬ ((1 ≤ q.toInt ∧ q.toInt ≤ 30) ∧ Int32.ofNat 0 ≤ r)) : fX3_steadyTake m p q r Γ (tw m I A S h) n = some (.inl (Int32.ofNat 0), tw m (va_up I 0 (Int32.ofNat 2)) A S h, 0, 0) := by
  have e0 := t_noSpecies1 (Γ := Γ) (n := n) (m := m) (I := va_up I 0 (Int32.ofNat 0)) (S := S) (h := h) ok hp
  by_cases c1 : 1 ≤ q.toInt ∧ q.toInt ≤ 30
  · have e1 := t_in1 (Γ := Γ) (h := tw m (va_up I 0 (Int32.ofNat 0)) A S h) (n := n) (a := q.toInt64) (b := 1) (c := 30) (by rw [Int32.toInt_toInt64]; exact c1.1) (by rw [Int32.toInt_toInt64]; exact c1.2)
    have c2 : ¬ Int32.ofNat 0 ≤ r := fun z => hq ⟨c1, z⟩
    simp (maxDischargeDepth := 9) only [fX3_steadyTake_p110, fX3_steadyTake_p35, fX3_steadyTake_p30, fX3_steadyTake, xbind, xlet, xpure, tw_sel, tg_0, tg_4, tg_9, tg_12, tg_13, tg_14, tg_15, tg_16, tg_17, tg_18, tg_19, tg_20, tg_21, tg_24, tr_1, tr_2, tr_3, tr_5, tr_6, tr_7, tr_8, tr_10, tr_11, tr_22, tr_23, tp_0, tp_4, tp_9, tp_12, tp_13, tp_14, tp_15, tp_16, tp_17, tp_18, tp_19, tp_20, tp_21, tp_24, va_up_self, va_up_ne, va_uu, i_ofNat, i_add, i_mul, Nat.add_zero, Nat.zero_add, reduceIte, if_true, if_false, Nat.reduceEqDiff, ne_eq, not_false_eq_true, Nat.reduceEqDiff, not_true_eq_false, e0, e1, i_10, c2, t_throws1]
  · have e1 := t_in0 (Γ := Γ) (h := tw m (va_up I 0 (Int32.ofNat 0)) A S h) (n := n) (a := q.toInt64) (b := 1) (c := 30) (by rw [Int32.toInt_toInt64]; exact c1)
    simp (maxDischargeDepth := 9) only [fX3_steadyTake_p110, fX3_steadyTake_p35, fX3_steadyTake_p30, fX3_steadyTake, xbind, xlet, xpure, tw_sel, tg_0, tg_4, tg_9, tg_12, tg_13, tg_14, tg_15, tg_16, tg_17, tg_18, tg_19, tg_20, tg_21, tg_24, tr_1, tr_2, tr_3, tr_5, tr_6, tr_7, tr_8, tr_10, tr_11, tr_22, tr_23, tp_0, tp_4, tp_9, tp_12, tp_13, tp_14, tp_15, tp_16, tp_17, tp_18, tp_19, tp_20, tp_21, tp_24, va_up_self, va_up_ne, va_uu, i_ofNat, i_add, i_mul, Nat.add_zero, Nat.zero_add, reduceIte, if_true, if_false, Nat.reduceEqDiff, ne_eq, not_false_eq_true, Nat.reduceEqDiff, not_true_eq_false, e0, e1, i_10, t_throws1]
theorem t_steadyTake1 {A : Nat → Nat → Int32} (ok : okN (A 1)) (hs : s < nn (A 1 0)) (ho : nn (A 1 (zI s 1)) = o) (ha : nn (A 1 (zI s 2)) = a) {y : Nat} (h1 : 1 ≤ y) (h30 : y ≤ 30) {least : Int32} (hl : Int32.ofNat 0 ≤ least) {ad : Nat} (had : pAdl (A 1) s a o = Int32.ofNat ad) (had' : ad < 16000000) : ∃ X, fX3_steadyTake m (Int32.ofNat s) (Int32.ofNat y) least Γ (tw m I A S h) n = some (.inl (if pWrk s o a (Int32.ofNat 0) least y (A 1) then Int32.ofNat (pBin (fun c => pWrk s o a (Int32.ofNat c) least y (A 1)) 24 0 (ad + 1)) else -Int32.ofNat 1), tw m (va_up I 0 (Int32.ofNat 0)) (va_up A 2 X) S h, 0, 0) := by
  have h4 := ok.2.1
  obtain ⟨a1, a2, a3, a4⟩ := ok.2.2.2.2.2.2.2.2.1 s hs
  unfold nN at a1 a3
  rw [ho] at a1 a2
  rw [ha] at a3
  rw [ho, ha] at a4
  have e0 := t_noSpecies1 (Γ := Γ) (n := n) (m := m) (I := va_up I 0 (Int32.ofNat 0)) (S := S) (h := h) ok (vS_of hs h4)
  have e1 := t_in1 (Γ := Γ) (h := tw m (va_up I 0 (Int32.ofNat 0)) A S h) (n := n) (a := (Int32.ofNat y).toInt64) (b := 1) (c := 30) (by rw [Int32.toInt_toInt64, i_toInt (by omega)]; show (1 : Int) ≤ y; omega) (by rw [Int32.toInt_toInt64, i_toInt (by omega)]; show (y : Int) ≤ 30; omega)
  have e2 := t_works (Γ := Γ) (n := n) (m := m) (I := va_up I 0 (Int32.ofNat 0)) (A := A) (S := S) (h := h) (show s < 4 by omega) a1 a2 a3 a4 (Int32.ofNat 0) least h30
  cases hw : pWrk s o a (Int32.ofNat 0) least y (A 1)
  · rw [hw, b2i_f] at e2
    refine ⟨pCpy (A 1) (A 2) 0 0 592, ?_⟩
    simp (maxDischargeDepth := 9) only [fX3_steadyTake_p110, fX3_steadyTake_p35, fX3_steadyTake_p30, fX3_steadyTake, xbind, xlet, xpure, tw_sel, tg_0, tg_4, tg_9, tg_12, tg_13, tg_14, tg_15, tg_16, tg_17, tg_18, tg_19, tg_20, tg_21, tg_24, tr_1, tr_2, tr_3, tr_5, tr_6, tr_7, tr_8, tr_10, tr_11, tr_22, tr_23, tp_0, tp_4, tp_9, tp_12, tp_13, tp_14, tp_15, tp_16, tp_17, tp_18, tp_19, tp_20, tp_21, tp_24, va_up_self, va_up_ne, va_uu, i_ofNat, i_add, i_mul, Nat.add_zero, Nat.zero_add, reduceIte, if_true, if_false, Nat.reduceEqDiff, ne_eq, not_false_eq_true, Nat.reduceEqDiff, not_true_eq_false, e0, e1, i_10, hl, t_throws0, e2, Bool.false_eq_true]
  · rw [hw, b2i_t] at e2
    have e3 := t_adultsOf (Γ := Γ) (n := n) (m := m) (I := va_up I 0 (Int32.ofNat 0)) (A := va_up A 2 (pCpy (A 1) (A 2) 0 0 592)) (S := S) (h := h) (show s < 4 by omega) (by rw [va_up_ne _ _ (by omega)]; exact a1) a2 (by rw [va_up_ne _ _ (by omega)]; exact a3) a4
    rw [va_up_ne _ _ (show 1 ≠ 2 by omega), had] at e3
    have hp24 : (2 : Nat) ^ 24 = 16777216 := by decide
    obtain ⟨X, e4⟩ := t_steadyTake_p69 (Γ := Γ) (n := n) (m := m) (I := va_up I 0 (Int32.ofNat 0)) (S := S) (h := h) (show s < 4 by omega) a2 a4 least h30 (A 1) a1 a3 24 0 (ad + 1) xFU (va_up A 2 (pCpy (A 1) (A 2) 0 0 592)) (by rw [va_up_ne _ _ (by omega)]) (by omega) (by omega) (by omega) (by unfold xFU; omega)
    refine ⟨X, ?_⟩
    simp (maxDischargeDepth := 9) only [xbind, xlet, xpure, tw_sel, tg_0, tg_4, tg_9, tg_12, tg_13, tg_14, tg_15, tg_16, tg_17, tg_18, tg_19, tg_20, tg_21, tg_24, tr_1, tr_2, tr_3, tr_5, tr_6, tr_7, tr_8, tr_10, tr_11, tr_22, tr_23, tp_0, tp_4, tp_9, tp_12, tp_13, tp_14, tp_15, tp_16, tp_17, tp_18, tp_19, tp_20, tp_21, tp_24, va_up_self, va_up_ne, va_uu, i_ofNat, i_add, i_mul, Nat.add_zero, Nat.zero_add, reduceIte, if_true, if_false, Nat.reduceEqDiff, ne_eq, not_false_eq_true, Nat.reduceEqDiff, not_true_eq_false] at e4
    simp (maxDischargeDepth := 9) only [fX3_steadyTake_p110, fX3_steadyTake_p35, fX3_steadyTake_p30, fX3_steadyTake, xbind, xlet, xpure, tw_sel, tg_0, tg_4, tg_9, tg_12, tg_13, tg_14, tg_15, tg_16, tg_17, tg_18, tg_19, tg_20, tg_21, tg_24, tr_1, tr_2, tr_3, tr_5, tr_6, tr_7, tr_8, tr_10, tr_11, tr_22, tr_23, tp_0, tp_4, tp_9, tp_12, tp_13, tp_14, tp_15, tp_16, tp_17, tp_18, tp_19, tp_20, tp_21, tp_24, va_up_self, va_up_ne, va_uu, i_ofNat, i_add, i_mul, Nat.add_zero, Nat.zero_add, reduceIte, if_true, if_false, Nat.reduceEqDiff, ne_eq, not_false_eq_true, Nat.reduceEqDiff, not_true_eq_false, e0, e1, i_10, hl, t_throws0, e2, e3, e4]
end TW20
