/-! part 419: the twin: what is thrown; life tables -/
theorem x_ret0 : xretN .boolean (Int32.ofNat 0) = xpure (Int32.ofNat 0) := by unfold xretN; rw [if_pos (by decide)]
theorem x_ret1 : xretN .boolean (Int32.ofNat 1) = xpure (Int32.ofNat 1) := by unfold xretN; rw [if_pos (by decide)]
theorem i_10 : ¬ (Int32.ofNat 1 = Int32.ofNat 0) := by decide
theorem j_lt {a b : Int64} : lg_cmp a b < Int32.ofNat 0 ↔ a < b := by
  unfold lg_cmp
  constructor
  · intro hh
    split at hh
    · exact absurd hh (by decide)
    · split at hh
      · exact absurd hh (by decide)
      · rename_i h1 h2
        simp only [gt_iff_lt, Int64.lt_iff_toInt_lt, ← Int64.toInt_inj] at *
        omega
  · intro hh
    have h1 : ¬ a > b := by simp only [gt_iff_lt, Int64.lt_iff_toInt_lt] at *; omega
    have h2 : ¬ a = b := by simp only [Int64.lt_iff_toInt_lt, ← Int64.toInt_inj] at *; omega
    rw [if_neg h1, if_neg h2]
    decide
theorem j_gt {a b : Int64} : Int32.ofNat 0 < lg_cmp a b ↔ b < a := by
  unfold lg_cmp
  constructor
  · intro hh
    split at hh
    · assumption
    · split at hh
      · exact absurd hh (by decide)
      · exact absurd hh (by decide)
  · intro hh
    rw [if_pos hh]
    decide
/-- p names a species; and q an age of it -/
def vS (N : Nat → Int32) (p : Int32) : Prop := 0 ≤ p.toInt ∧ p.toInt < nn (N 0)
def vA (N : Nat → Int32) (p q : Int32) : Prop := vS N p ∧ 0 ≤ q.toInt ∧ q.toInt ≤ nn (N (zI (nn p) 1))
theorem i_pos {p : Int32} (h : 0 ≤ p.toInt) : p = Int32.ofNat (nn p) := i_ofToInt h
theorem i_nn {p : Int32} (h : 0 ≤ p.toInt) : (nn p : Int) = p.toInt := by
  show ((p.toInt.toNat : Nat) : Int) = p.toInt
  omega
theorem vS_of {N : Nat → Int32} {s : Nat} (hs : s < nn (N 0)) (h4 : nn (N 0) ≤ 4) : vS N (Int32.ofNat s) := by
  unfold vS
  rw [i_toInt (by omega)]
  omega
section TW10
variable {Γ : Nat → Option Nat} {m n : Nat} {I : Nat → Int32} {A : Nat → Nat → Int32} {S : Nat → Int64} {h : xH}
theorem t_throws0 (c : Int32) : fX3_throwsIf m (Int32.ofNat 0) c Γ (tw m I A S h) n = some (.inl (Int32.ofNat 0), tw m I A S h, 0, 0) := by
  simp (maxDischargeDepth := 9) only [fX3_throwsIf, xbind, xlet, xpure, tw_sel, tg_0, tg_4, tg_9, tg_12, tg_13, tg_14, tg_15, tg_16, tg_17, tg_18, tg_19, tg_20, tg_21, tg_24, tr_1, tr_2, tr_3, tr_5, tr_6, tr_7, tr_8, tr_10, tr_11, tr_22, tr_23, tp_0, tp_4, tp_9, tp_12, tp_13, tp_14, tp_15, tp_16, tp_17, tp_18, tp_19, tp_20, tp_21, tp_24, va_up_self, va_up_ne, va_uu, i_ofNat, i_add, i_mul, Nat.add_zero, Nat.zero_add, reduceIte, if_true, if_false, Nat.reduceEqDiff, ne_eq, not_false_eq_true, Nat.reduceEqDiff, not_true_eq_false, x_ret0]
theorem t_throws1 (c : Int32) : fX3_throwsIf m (Int32.ofNat 1) c Γ (tw m I A S h) n = some (.inl (Int32.ofNat 1), tw m (va_up I 0 c) A S h, 0, 0) := by
  simp (maxDischargeDepth := 9) only [fX3_throwsIf, xbind, xlet, xpure, tw_sel, tg_0, tg_4, tg_9, tg_12, tg_13, tg_14, tg_15, tg_16, tg_17, tg_18, tg_19, tg_20, tg_21, tg_24, tr_1, tr_2, tr_3, tr_5, tr_6, tr_7, tr_8, tr_10, tr_11, tr_22, tr_23, tp_0, tp_4, tp_9, tp_12, tp_13, tp_14, tp_15, tp_16, tp_17, tp_18, tp_19, tp_20, tp_21, tp_24, va_up_self, va_up_ne, va_uu, i_ofNat, i_add, i_mul, Nat.add_zero, Nat.zero_add, reduceIte, if_true, if_false, Nat.reduceEqDiff, ne_eq, not_false_eq_true, Nat.reduceEqDiff, not_true_eq_false, i_10, x_ret1]
theorem t_in1 {a b c : Int64} (h1 : b.toInt ≤ a.toInt) (h2 : a.toInt ≤ c.toInt) : fX3_in a b c Γ h n = some (.inl (Int32.ofNat 1), h, 0, 0) := by
  have c1 : ¬ lg_cmp a b < Int32.ofNat 0 := by rw [j_lt, Int64.lt_iff_toInt_lt]; omega
  have c2 : ¬ Int32.ofNat 0 < lg_cmp a c := by rw [j_gt, Int64.lt_iff_toInt_lt]; omega
  simp only [fX3_in, i_ofNat, c1, c2, if_false, xpure]
theorem t_in0 {a b c : Int64} (h1 : ¬ (b.toInt ≤ a.toInt ∧ a.toInt ≤ c.toInt)) : fX3_in a b c Γ h n = some (.inl (Int32.ofNat 0), h, 0, 0) := by
  by_cases c1 : lg_cmp a b < Int32.ofNat 0
  · simp only [fX3_in, i_ofNat, c1, if_true, xpure]
  · have c2 : Int32.ofNat 0 < lg_cmp a c := by
      rw [j_gt, Int64.lt_iff_toInt_lt]
      rw [j_lt, Int64.lt_iff_toInt_lt] at c1
      omega
    simp only [fX3_in, i_ofNat, c1, c2, if_false, if_true, xpure]
theorem i_m1i {k : Nat} (hk : k < 2147483648) : (Int32.ofNat k - Int32.ofNat 1).toInt64.toInt = (k : Int) - 1 := by
  rw [Int32.toInt_toInt64]
  rcases k with _ | k
  · decide
  · rw [i_sub (by omega), Nat.add_sub_cancel, i_toInt (by omega)]
    omega
theorem t_noSpecies1 (ok : okN (A 1)) {p : Int32} (hp : vS (A 1) p) : fX3_noSpecies m p Γ (tw m I A S h) n = some (.inl (Int32.ofNat 0), tw m I A S h, 0, 0) := by
  have h0 := ok.1
  unfold nN at h0
  have h4 := ok.2.1
  have e1 := t_in1 (Γ := Γ) (h := tw m I A S h) (n := n) (a := p.toInt64) (b := 0) (c := (A 1 0 - Int32.ofNat 1).toInt64) (by rw [Int32.toInt_toInt64]; exact hp.1) (by rw [h0, i_m1i (by omega), Int32.toInt_toInt64]; have := hp.2; omega)
  simp (maxDischargeDepth := 9) only [fX3_noSpecies_p24, fX3_noSpecies, xbind, xlet, xpure, tw_sel, tg_0, tg_4, tg_9, tg_12, tg_13, tg_14, tg_15, tg_16, tg_17, tg_18, tg_19, tg_20, tg_21, tg_24, tr_1, tr_2, tr_3, tr_5, tr_6, tr_7, tr_8, tr_10, tr_11, tr_22, tr_23, tp_0, tp_4, tp_9, tp_12, tp_13, tp_14, tp_15, tp_16, tp_17, tp_18, tp_19, tp_20, tp_21, tp_24, va_up_self, va_up_ne, va_uu, i_ofNat, i_add, i_mul, Nat.add_zero, Nat.zero_add, reduceIte, if_true, if_false, Nat.reduceEqDiff, ne_eq, not_false_eq_true, Nat.reduceEqDiff, not_true_eq_false, tl_1 (show 0 < 592 by omega), e1, i_10, t_throws0, x_ret0]
theorem t_noSpecies0 (ok : okN (A 1)) {p : Int32} (hp : ¬ vS (A 1) p) : fX3_noSpecies m p Γ (tw m I A S h) n = some (.inl (Int32.ofNat 1), tw m (va_up I 0 (Int32.ofNat 1)) A S h, 0, 0) := by
  have h0 := ok.1
  unfold nN at h0
  have h4 := ok.2.1
  have e1 := t_in0 (Γ := Γ) (h := tw m I A S h) (n := n) (a := p.toInt64) (b := 0) (c := (A 1 0 - Int32.ofNat 1).toInt64) (by
    rw [h0, i_m1i (by omega), Int32.toInt_toInt64]
    rintro ⟨q1, q2⟩
    have q1 : 0 ≤ p.toInt := q1
    exact hp ⟨q1, by omega⟩)
  simp (maxDischargeDepth := 9) only [fX3_noSpecies_p24, fX3_noSpecies, xbind, xlet, xpure, tw_sel, tg_0, tg_4, tg_9, tg_12, tg_13, tg_14, tg_15, tg_16, tg_17, tg_18, tg_19, tg_20, tg_21, tg_24, tr_1, tr_2, tr_3, tr_5, tr_6, tr_7, tr_8, tr_10, tr_11, tr_22, tr_23, tp_0, tp_4, tp_9, tp_12, tp_13, tp_14, tp_15, tp_16, tp_17, tp_18, tp_19, tp_20, tp_21, tp_24, va_up_self, va_up_ne, va_uu, i_ofNat, i_add, i_mul, Nat.add_zero, Nat.zero_add, reduceIte, if_true, if_false, Nat.reduceEqDiff, ne_eq, not_false_eq_true, Nat.reduceEqDiff, not_true_eq_false, tl_1 (show 0 < 592 by omega), e1, t_throws1, x_ret1]
theorem t_noAge1 (ok : okN (A 1)) {s x : Nat} (hs : s < nn (A 1 0)) (hx : x ≤ nn (A 1 (zI s 1))) : fX3_noAge m (Int32.ofNat s) (Int32.ofNat x) Γ (tw m I A S h) n = some (.inl (Int32.ofNat 0), tw m I A S h, 0, 0) := by
  have h4 := ok.2.1
  have hS := ok.2.2.2.2.2.2.2.2.1 s hs
  have e0 := t_noSpecies1 (Γ := Γ) (n := n) (m := m) (I := I) (S := S) (h := h) ok (vS_of hs h4)
  have e2 := t_oldest (Γ := Γ) (n := n) (m := m) (I := I) (A := A) (S := S) (h := h) (show s < 4 by omega)
  have h1 := hS.1
  unfold nN at h1
  have h12 := hS.2.1
  have e1 := t_in1 (Γ := Γ) (h := tw m I A S h) (n := n) (a := (Int32.ofNat x).toInt64) (b := 0) (c := (A 1 (zI s 1)).toInt64) (by rw [Int32.toInt_toInt64, i_toInt (by omega)]; exact Int.natCast_nonneg x) (by rw [h1, Int32.toInt_toInt64, Int32.toInt_toInt64, i_toInt (by omega), i_toInt (by omega)]; omega)
  simp (maxDischargeDepth := 9) only [fX3_noAge_p36, fX3_noAge_p29, fX3_noAge, xbind, xlet, xpure, tw_sel, tg_0, tg_4, tg_9, tg_12, tg_13, tg_14, tg_15, tg_16, tg_17, tg_18, tg_19, tg_20, tg_21, tg_24, tr_1, tr_2, tr_3, tr_5, tr_6, tr_7, tr_8, tr_10, tr_11, tr_22, tr_23, tp_0, tp_4, tp_9, tp_12, tp_13, tp_14, tp_15, tp_16, tp_17, tp_18, tp_19, tp_20, tp_21, tp_24, va_up_self, va_up_ne, va_uu, i_ofNat, i_add, i_mul, Nat.add_zero, Nat.zero_add, reduceIte, if_true, if_false, Nat.reduceEqDiff, ne_eq, not_false_eq_true, Nat.reduceEqDiff, not_true_eq_false, e0, e1, e2, i_10, t_throws0]
theorem t_noAge0 (ok : okN (A 1)) {p q : Int32} (hp : ¬ vA (A 1) p q) : fX3_noAge m p q Γ (tw m I A S h) n = some (.inl (Int32.ofNat 1), tw m (va_up I 0 (Int32.ofNat 1)) A S h, 0, 0) := by
  by_cases hv : vS (A 1) p
  · have h4 := ok.2.1
    have e0 := t_noSpecies1 (Γ := Γ) (n := n) (m := m) (I := I) (S := S) (h := h) ok hv
    have hpp := i_pos hv.1
    have hnn := i_nn hv.1
    have hlt : nn p < nn (A 1 0) := by have := hv.2; omega
    have hS := ok.2.2.2.2.2.2.2.2.1 (nn p) hlt
    have e2 := t_oldest (Γ := Γ) (n := n) (m := m) (I := I) (A := A) (S := S) (h := h) (show nn p < 4 by omega)
    rw [← hpp] at e2
    have h1 := hS.1
    unfold nN at h1
    have h12 := hS.2.1
    have e1 := t_in0 (Γ := Γ) (h := tw m I A S h) (n := n) (a := q.toInt64) (b := 0) (c := (A 1 (zI (nn p) 1)).toInt64) (by
      rw [h1, Int32.toInt_toInt64, Int32.toInt_toInt64, i_toInt (by omega)]
      rintro ⟨q1, q2⟩
      exact hp ⟨hv, q1, q2⟩)
    simp (maxDischargeDepth := 9) only [fX3_noAge_p36, fX3_noAge_p29, fX3_noAge, xbind, xlet, xpure, tw_sel, tg_0, tg_4, tg_9, tg_12, tg_13, tg_14, tg_15, tg_16, tg_17, tg_18, tg_19, tg_20, tg_21, tg_24, tr_1, tr_2, tr_3, tr_5, tr_6, tr_7, tr_8, tr_10, tr_11, tr_22, tr_23, tp_0, tp_4, tp_9, tp_12, tp_13, tp_14, tp_15, tp_16, tp_17, tp_18, tp_19, tp_20, tp_21, tp_24, va_up_self, va_up_ne, va_uu, i_ofNat, i_add, i_mul, Nat.add_zero, Nat.zero_add, reduceIte, if_true, if_false, Nat.reduceEqDiff, ne_eq, not_false_eq_true, Nat.reduceEqDiff, not_true_eq_false, e0, e1, e2, i_10, t_throws1]
  · have e0 := t_noSpecies0 (Γ := Γ) (n := n) (m := m) (I := I) (S := S) (h := h) ok hv
    simp (maxDischargeDepth := 9) only [fX3_noAge_p36, fX3_noAge_p29, fX3_noAge, xbind, xlet, xpure, tw_sel, tg_0, tg_4, tg_9, tg_12, tg_13, tg_14, tg_15, tg_16, tg_17, tg_18, tg_19, tg_20, tg_21, tg_24, tr_1, tr_2, tr_3, tr_5, tr_6, tr_7, tr_8, tr_10, tr_11, tr_22, tr_23, tp_0, tp_4, tp_9, tp_12, tp_13, tp_14, tp_15, tp_16, tp_17, tp_18, tp_19, tp_20, tp_21, tp_24, va_up_self, va_up_ne, va_uu, i_ofNat, i_add, i_mul, Nat.add_zero, Nat.zero_add, reduceIte, if_true, if_false, Nat.reduceEqDiff, ne_eq, not_false_eq_true, Nat.reduceEqDiff, not_true_eq_false, e0, i_10]
/-- of 100000 newborn ones so many live at age x -/
def pAlive (N : Nat → Int32) (s : Nat) : Nat → Nat → Int32 → Int32
  | _, 0, v => v
  | x, k + 1, v => pAlive N s (x + 1) k (pGone v (N (zI s (13 + x))))
theorem t_aliveOf_p7 {s a : Nat} (hs : s < 4) (ha : a ≤ 13) : ∀ (k x fu : Nat) (v : Int32), x + k = a → k < fu → fX3_aliveOf_p7 fu m (Int32.ofNat s) (Int32.ofNat a) v (Int32.ofNat x) Γ (tw m I A S h) n = some (.inl (pAlive (A 1) s x k v), tw m I A S h, 0, 0) := by
  intro k
  induction k with
  | zero =>
    intro x fu v hx hf
    obtain ⟨fu, rfl⟩ : ∃ g, fu = g + 1 := ⟨fu - 1, by omega⟩
    have c1 : Int32.ofNat a ≤ Int32.ofNat x := by rw [i_le (by omega) (by omega)]; omega
    rw [fX3_aliveOf_p7]
    simp (maxDischargeDepth := 9) only [xbind, xlet, xpure, tw_sel, tg_0, tg_4, tg_9, tg_12, tg_13, tg_14, tg_15, tg_16, tg_17, tg_18, tg_19, tg_20, tg_21, tg_24, tr_1, tr_2, tr_3, tr_5, tr_6, tr_7, tr_8, tr_10, tr_11, tr_22, tr_23, tp_0, tp_4, tp_9, tp_12, tp_13, tp_14, tp_15, tp_16, tp_17, tp_18, tp_19, tp_20, tp_21, tp_24, va_up_self, va_up_ne, va_uu, i_ofNat, i_add, i_mul, Nat.add_zero, Nat.zero_add, reduceIte, if_true, if_false, Nat.reduceEqDiff, ne_eq, not_false_eq_true, Nat.reduceEqDiff, not_true_eq_false, c1, pAlive]
  | succ k ih =>
    intro x fu v hx hf
    obtain ⟨fu, rfl⟩ : ∃ g, fu = g + 1 := ⟨fu - 1, by omega⟩
    have c1 : ¬ Int32.ofNat a ≤ Int32.ofNat x := by rw [i_le (by omega) (by omega)]; omega
    have e1 := t_of (Γ := Γ) (n := n) (m := m) (I := I) (A := A) (S := S) (h := h) hs (show 13 + x < 132 by omega)
    have e2 := ih (x + 1) fu (pGone v (A 1 (zI s (13 + x)))) (by omega) (by omega)
    unfold pGone at e2
    rw [fX3_aliveOf_p7]
    simp (maxDischargeDepth := 9) only [xbind, xlet, xpure, tw_sel, tg_0, tg_4, tg_9, tg_12, tg_13, tg_14, tg_15, tg_16, tg_17, tg_18, tg_19, tg_20, tg_21, tg_24, tr_1, tr_2, tr_3, tr_5, tr_6, tr_7, tr_8, tr_10, tr_11, tr_22, tr_23, tp_0, tp_4, tp_9, tp_12, tp_13, tp_14, tp_15, tp_16, tp_17, tp_18, tp_19, tp_20, tp_21, tp_24, va_up_self, va_up_ne, va_uu, i_ofNat, i_add, i_mul, Nat.add_zero, Nat.zero_add, reduceIte, if_true, if_false, Nat.reduceEqDiff, ne_eq, not_false_eq_true, Nat.reduceEqDiff, not_true_eq_false, c1, e1, xdvJ, j_dv, e2, pAlive, pGone]
def pAliveOf (N : Nat → Int32) (s a : Nat) : Int32 := pAlive N s 0 a (Int32.ofNat 100000)
theorem t_aliveOf {s a : Nat} (hs : s < 4) (ha : a ≤ 13) : fX3_aliveOf m (Int32.ofNat s) (Int32.ofNat a) Γ (tw m I A S h) n = some (.inl (pAliveOf (A 1) s a), tw m I A S h, 0, 0) := by
  have e := t_aliveOf_p7 (Γ := Γ) (n := n) (m := m) (I := I) (A := A) (S := S) (h := h) hs ha a 0 xFU (Int32.ofNat 100000) (by omega) (by unfold xFU; omega)
  simp (maxDischargeDepth := 9) only [fX3_aliveOf, xbind, xlet, xpure, tw_sel, tg_0, tg_4, tg_9, tg_12, tg_13, tg_14, tg_15, tg_16, tg_17, tg_18, tg_19, tg_20, tg_21, tg_24, tr_1, tr_2, tr_3, tr_5, tr_6, tr_7, tr_8, tr_10, tr_11, tr_22, tr_23, tp_0, tp_4, tp_9, tp_12, tp_13, tp_14, tp_15, tp_16, tp_17, tp_18, tp_19, tp_20, tp_21, tp_24, va_up_self, va_up_ne, va_uu, i_ofNat, i_add, i_mul, Nat.add_zero, Nat.zero_add, reduceIte, if_true, if_false, Nat.reduceEqDiff, ne_eq, not_false_eq_true, Nat.reduceEqDiff, not_true_eq_false, e, pAliveOf]
end TW10
