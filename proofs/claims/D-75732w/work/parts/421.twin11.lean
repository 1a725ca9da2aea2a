/-! part 421: the twin: ledgers -/
theorem i_neg1 {a : Nat} (h : a < 2147483648) : ¬ Int32.ofNat a = -Int32.ofNat 1 := by
  rw [← Int32.toInt_inj, i_toInt h]
  have : (-Int32.ofNat 1).toInt = -1 := by decide
  rw [this]
  omega
/-- part w of the ledger of species s, year k behind the first one -/
def pLP (L N : Nat → Int32) (s k w : Nat) : Int32 := if k = nn (N 2) then pPart N s w else L ((k * 4 + s) * 7 + w)
def pFY (N : Nat → Int32) : Nat := nn (N 1) - nn (N 2)
def pWo (f : Nat → Int32) : Nat → Nat → Option Nat → Option Nat
  | 0, _, b => b
  | k + 1, x, none => pWo f k (x + 1) (some x)
  | k + 1, x, some b => if f b < f x then pWo f k (x + 1) (some b) else pWo f k (x + 1) (some x)
def o2i (b : Option Nat) : Int32 := match b with
  | none => -Int32.ofNat 1
  | some k => Int32.ofNat k
def pGood (L N : Nat → Int32) (s k : Nat) : Bool := decide (((((pLP L N s k 0).toInt64 + (pLP L N s k 1).toInt64) + (pLP L N s k 4).toInt64) - (pLP L N s k 2).toInt64) - (pLP L N s k 3).toInt64 = (pLP L N s k 5).toInt64) && (decide (k = nn (N 2)) || decide (pLP L N s k 5 = pLP L N s (k + 1) 0))
/-- good from x on, k years -/
def pGoods (L N : Nat → Int32) (s : Nat) : Nat → Nat → Bool → Bool
  | _, 0, b => b
  | x, k + 1, b => pGoods L N s (x + 1) k (b && pGood L N s x)
def pGoodA (L N : Nat → Int32) : Nat → Nat → Bool → Bool
  | _, 0, b => b
  | s, k + 1, b => pGoodA L N (s + 1) k (pGoods L N s 0 (nn (N 2) + 1) b)
theorem j_cmpE {a b : Int64} : lg_cmp a b = Int32.ofNat 0 ↔ a = b := by
  unfold lg_cmp
  constructor
  · intro hh
    split at hh
    · exact absurd hh (by decide)
    · split at hh
      · assumption
      · exact absurd hh (by decide)
  · rintro rfl
    have : ¬ a > a := by simp only [gt_iff_lt, Int64.lt_iff_toInt_lt]; omega
    rw [if_neg this, if_pos rfl]
    rfl
theorem b2i_f : b2i false = Int32.ofNat 0 := rfl
theorem b2i_t : b2i true = Int32.ofNat 1 := rfl
section TW12
variable {Γ : Nat → Option Nat} {m n : Nat} {I : Nat → Int32} {A : Nat → Nat → Int32} {S : Nat → Int64} {h : xH}
theorem t_firstYear (ok : okN (A 1)) : fX3_firstYear m Γ (tw m I A S h) n = some (.inl (Int32.ofNat (pFY (A 1))), tw m I A S h, 0, 0) := by
  obtain ⟨a1, a2, a3, a4, a5, a6, -⟩ := ok
  unfold nN at a3 a5
  have e : A 1 1 - A 1 2 = Int32.ofNat (pFY (A 1)) := by
    have q : Int32.ofNat (nn (A 1 1)) - Int32.ofNat (nn (A 1 2)) = Int32.ofNat (nn (A 1 1) - nn (A 1 2)) := i_sub a6
    rw [← a3, ← a5] at q
    exact q
  simp (maxDischargeDepth := 9) only [fX3_firstYear, xbind, xlet, xpure, tw_sel, tg_0, tg_4, tg_9, tg_12, tg_13, tg_14, tg_15, tg_16, tg_17, tg_18, tg_19, tg_20, tg_21, tg_24, tr_1, tr_2, tr_3, tr_5, tr_6, tr_7, tr_8, tr_10, tr_11, tr_22, tr_23, tp_0, tp_4, tp_9, tp_12, tp_13, tp_14, tp_15, tp_16, tp_17, tp_18, tp_19, tp_20, tp_21, tp_24, va_up_self, va_up_ne, va_uu, i_ofNat, i_add, i_mul, Nat.add_zero, Nat.zero_add, reduceIte, if_true, if_false, Nat.reduceEqDiff, ne_eq, not_false_eq_true, Nat.reduceEqDiff, not_true_eq_false, tl_1 (show 1 < 592 by omega), tl_1 (show 2 < 592 by omega), e]
theorem t_ledgerPart (ok : okN (A 1)) {s k w : Nat} (hs : s < nn (A 1 0)) (hk : k ≤ nn (A 1 2)) (hw : w < 7) : fX3_ledgerPart m (Int32.ofNat s) (Int32.ofNat k) (Int32.ofNat w) Γ (tw m I A S h) n = some (.inl (pLP (A 4) (A 1) s k w), tw m I A S h, 0, 0) := by
  have h4 := ok.2.1
  have hS := ok.2.2.2.2.2.2.2.2.1 s hs
  have h2 := ok.2.2.2.2.1
  have h26 := ok.2.2.2.2.2.1
  have h1 := ok.2.2.2.1
  unfold nN at h2
  have e1 := t_part (Γ := Γ) (n := n) (m := m) (I := I) (A := A) (S := S) (h := h) (w := w) (show s < 4 by omega) hS hw
  have lit : (Int32.ofNat k = A 1 2) ↔ k = nn (A 1 2) := by
    rw [h2, i_eq (by omega) (by omega), ← h2]
  unfold pLP
  by_cases c : k = nn (A 1 2)
  · have l1 := eq_true (lit.mpr c)
    have c1 := eq_true c
    simp (maxDischargeDepth := 9) only [fX3_ledgerPart, xbind, xlet, xpure, tw_sel, tg_0, tg_4, tg_9, tg_12, tg_13, tg_14, tg_15, tg_16, tg_17, tg_18, tg_19, tg_20, tg_21, tg_24, tr_1, tr_2, tr_3, tr_5, tr_6, tr_7, tr_8, tr_10, tr_11, tr_22, tr_23, tp_0, tp_4, tp_9, tp_12, tp_13, tp_14, tp_15, tp_16, tp_17, tp_18, tp_19, tp_20, tp_21, tp_24, va_up_self, va_up_ne, va_uu, i_ofNat, i_add, i_mul, Nat.add_zero, Nat.zero_add, reduceIte, if_true, if_false, Nat.reduceEqDiff, ne_eq, not_false_eq_true, Nat.reduceEqDiff, not_true_eq_false, tl_1 (show 2 < 592 by omega), l1, c1, e1]
  · have l1 : ¬ (Int32.ofNat k = A 1 2) := fun q => c (lit.mp q)
    simp (maxDischargeDepth := 9) only [fX3_ledgerPart, xbind, xlet, xpure, tw_sel, tg_0, tg_4, tg_9, tg_12, tg_13, tg_14, tg_15, tg_16, tg_17, tg_18, tg_19, tg_20, tg_21, tg_24, tr_1, tr_2, tr_3, tr_5, tr_6, tr_7, tr_8, tr_10, tr_11, tr_22, tr_23, tp_0, tp_4, tp_9, tp_12, tp_13, tp_14, tp_15, tp_16, tp_17, tp_18, tp_19, tp_20, tp_21, tp_24, va_up_self, va_up_ne, va_uu, i_ofNat, i_add, i_mul, Nat.add_zero, Nat.zero_add, reduceIte, if_true, if_false, Nat.reduceEqDiff, ne_eq, not_false_eq_true, Nat.reduceEqDiff, not_true_eq_false, tl_1 (show 2 < 592 by omega), l1, c, tl_4 (show (k * 4 + s) * 7 + w < 280000 by omega)]
theorem t_isYear1 (ok : okN (A 1)) {p : Int32} (h1 : (pFY (A 1) : Int) ≤ p.toInt) (h2 : p.toInt ≤ nn (A 1 1)) : fX3_isYear m p Γ (tw m I A S h) n = some (.inl (Int32.ofNat 1), tw m I A S h, 0, 0) := by
  have e0 := t_firstYear (Γ := Γ) (n := n) (m := m) (I := I) (A := A) (S := S) (h := h) ok
  have hy := ok.2.2.1
  have hy9 := ok.2.2.2.1
  unfold nN at hy
  have e1 := t_in1 (Γ := Γ) (h := tw m I A S h) (n := n) (a := p.toInt64) (b := (Int32.ofNat (pFY (A 1))).toInt64) (c := (A 1 1).toInt64) (by rw [Int32.toInt_toInt64, Int32.toInt_toInt64, i_toInt (by unfold pFY; omega)]; exact h1) (by rw [hy, Int32.toInt_toInt64, Int32.toInt_toInt64, i_toInt (by omega)]; exact h2)
  simp (maxDischargeDepth := 9) only [fX3_isYear, xbind, xlet, xpure, tw_sel, tg_0, tg_4, tg_9, tg_12, tg_13, tg_14, tg_15, tg_16, tg_17, tg_18, tg_19, tg_20, tg_21, tg_24, tr_1, tr_2, tr_3, tr_5, tr_6, tr_7, tr_8, tr_10, tr_11, tr_22, tr_23, tp_0, tp_4, tp_9, tp_12, tp_13, tp_14, tp_15, tp_16, tp_17, tp_18, tp_19, tp_20, tp_21, tp_24, va_up_self, va_up_ne, va_uu, i_ofNat, i_add, i_mul, Nat.add_zero, Nat.zero_add, reduceIte, if_true, if_false, Nat.reduceEqDiff, ne_eq, not_false_eq_true, Nat.reduceEqDiff, not_true_eq_false, e0, tl_1 (show 1 < 592 by omega), e1, x_ret1]
theorem t_isYear0 (ok : okN (A 1)) {p : Int32} (h1 : ¬ ((pFY (A 1) : Int) ≤ p.toInt ∧ p.toInt ≤ nn (A 1 1))) : fX3_isYear m p Γ (tw m I A S h) n = some (.inl (Int32.ofNat 0), tw m I A S h, 0, 0) := by
  have e0 := t_firstYear (Γ := Γ) (n := n) (m := m) (I := I) (A := A) (S := S) (h := h) ok
  have hy := ok.2.2.1
  have hy9 := ok.2.2.2.1
  unfold nN at hy
  have e1 := t_in0 (Γ := Γ) (h := tw m I A S h) (n := n) (a := p.toInt64) (b := (Int32.ofNat (pFY (A 1))).toInt64) (c := (A 1 1).toInt64) (by rw [hy, Int32.toInt_toInt64, Int32.toInt_toInt64, Int32.toInt_toInt64, i_toInt (by unfold pFY; omega), i_toInt (by omega)]; exact h1)
  simp (maxDischargeDepth := 9) only [fX3_isYear, xbind, xlet, xpure, tw_sel, tg_0, tg_4, tg_9, tg_12, tg_13, tg_14, tg_15, tg_16, tg_17, tg_18, tg_19, tg_20, tg_21, tg_24, tr_1, tr_2, tr_3, tr_5, tr_6, tr_7, tr_8, tr_10, tr_11, tr_22, tr_23, tp_0, tp_4, tp_9, tp_12, tp_13, tp_14, tp_15, tp_16, tp_17, tp_18, tp_19, tp_20, tp_21, tp_24, va_up_self, va_up_ne, va_uu, i_ofNat, i_add, i_mul, Nat.add_zero, Nat.zero_add, reduceIte, if_true, if_false, Nat.reduceEqDiff, ne_eq, not_false_eq_true, Nat.reduceEqDiff, not_true_eq_false, e0, tl_1 (show 1 < 592 by omega), e1, x_ret0]
theorem t_ledger1 (ok : okN (A 1)) {s y w : Nat} (hs : s < nn (A 1 0)) (h1 : pFY (A 1) ≤ y) (h2 : y ≤ nn (A 1 1)) (hw : w ≤ 6) : fX3_ledger m (Int32.ofNat s) (Int32.ofNat y) (Int32.ofNat w) Γ (tw m I A S h) n = some (.inl (pLP (A 4) (A 1) s (y - pFY (A 1)) w), tw m (va_up I 0 (Int32.ofNat 0)) A S h, 0, 0) := by
  have h4 := ok.2.1
  have hy9 := ok.2.2.2.1
  have hcy := ok.2.2.2.2.2.1
  have e0 := t_noSpecies1 (Γ := Γ) (n := n) (m := m) (I := va_up I 0 (Int32.ofNat 0)) (S := S) (h := h) ok (vS_of hs h4)
  have e1 := t_isYear1 (Γ := Γ) (n := n) (m := m) (I := va_up I 0 (Int32.ofNat 0)) (S := S) (h := h) ok (p := Int32.ofNat y) (by rw [i_toInt (by omega)]; omega) (by rw [i_toInt (by omega)]; omega)
  have e2 := t_in1 (Γ := Γ) (h := tw m (va_up I 0 (Int32.ofNat 0)) A S h) (n := n) (a := (Int32.ofNat w).toInt64) (b := 0) (c := 6) (by rw [Int32.toInt_toInt64, i_toInt (by omega)]; exact Int.natCast_nonneg w) (by rw [Int32.toInt_toInt64, i_toInt (by omega)]; show (w : Int) ≤ 6; omega)
  have e3 := t_firstYear (Γ := Γ) (n := n) (m := m) (I := va_up I 0 (Int32.ofNat 0)) (A := A) (S := S) (h := h) ok
  have e4 := t_ledgerPart (Γ := Γ) (n := n) (m := m) (I := va_up I 0 (Int32.ofNat 0)) (A := A) (S := S) (h := h) ok (k := y - pFY (A 1)) hs (by unfold pFY at *; omega) (show w < 7 by omega)
  have e5 : Int32.ofNat y - Int32.ofNat (pFY (A 1)) = Int32.ofNat (y - pFY (A 1)) := i_sub h1
  simp (maxDischargeDepth := 9) only [fX3_ledger_p46, fX3_ledger_p39, fX3_ledger_p34, fX3_ledger, xbind, xlet, xpure, tw_sel, tg_0, tg_4, tg_9, tg_12, tg_13, tg_14, tg_15, tg_16, tg_17, tg_18, tg_19, tg_20, tg_21, tg_24, tr_1, tr_2, tr_3, tr_5, tr_6, tr_7, tr_8, tr_10, tr_11, tr_22, tr_23, tp_0, tp_4, tp_9, tp_12, tp_13, tp_14, tp_15, tp_16, tp_17, tp_18, tp_19, tp_20, tp_21, tp_24, va_up_self, va_up_ne, va_uu, i_ofNat, i_add, i_mul, Nat.add_zero, Nat.zero_add, reduceIte, if_true, if_false, Nat.reduceEqDiff, ne_eq, not_false_eq_true, Nat.reduceEqDiff, not_true_eq_false, e0, e1, e2, e3, e5, e4, i_10, t_throws0]
theorem t_ledger2 (ok : okN (A 1)) {p y q : Int32} (hp : vS (A 1) p) (hq : ¬ (((pFY (A 1) : Int) ≤ y.toInt ∧ y.toInt ≤ nn (A 1 1)) ∧ 0 ≤ q.toInt ∧ q.toInt ≤ 6)) : fX3_ledger m p y q Γ (tw m I A S h) n = some (.inl (Int32.ofNat 0), tw m (va_up I 0 (Int32.ofNat 2)) A S h, 0, 0) := by
  have e0 := t_noSpecies1 (Γ := Γ) (n := n) (m := m) (I := va_up I 0 (Int32.ofNat 0)) (S := S) (h := h) ok hp
  by_cases hy : (pFY (A 1) : Int) ≤ y.toInt ∧ y.toInt ≤ nn (A 1 1)
  · have e1 := t_isYear1 (Γ := Γ) (n := n) (m := m) (I := va_up I 0 (Int32.ofNat 0)) (S := S) (h := h) ok hy.1 hy.2
    have e2 := t_in0 (Γ := Γ) (h := tw m (va_up I 0 (Int32.ofNat 0)) A S h) (n := n) (a := q.toInt64) (b := 0) (c := 6) (by rw [Int32.toInt_toInt64]; exact fun z => hq ⟨hy, z⟩)
    simp (maxDischargeDepth := 9) only [fX3_ledger_p46, fX3_ledger_p39, fX3_ledger_p34, fX3_ledger, xbind, xlet, xpure, tw_sel, tg_0, tg_4, tg_9, tg_12, tg_13, tg_14, tg_15, tg_16, tg_17, tg_18, tg_19, tg_20, tg_21, tg_24, tr_1, tr_2, tr_3, tr_5, tr_6, tr_7, tr_8, tr_10, tr_11, tr_22, tr_23, tp_0, tp_4, tp_9, tp_12, tp_13, tp_14, tp_15, tp_16, tp_17, tp_18, tp_19, tp_20, tp_21, tp_24, va_up_self, va_up_ne, va_uu, i_ofNat, i_add, i_mul, Nat.add_zero, Nat.zero_add, reduceIte, if_true, if_false, Nat.reduceEqDiff, ne_eq, not_false_eq_true, Nat.reduceEqDiff, not_true_eq_false, e0, e1, e2, i_10, t_throws1]
  · have e1 := t_isYear0 (Γ := Γ) (n := n) (m := m) (I := va_up I 0 (Int32.ofNat 0)) (S := S) (h := h) ok hy
    simp (maxDischargeDepth := 9) only [fX3_ledger_p46, fX3_ledger_p39, fX3_ledger_p34, fX3_ledger, xbind, xlet, xpure, tw_sel, tg_0, tg_4, tg_9, tg_12, tg_13, tg_14, tg_15, tg_16, tg_17, tg_18, tg_19, tg_20, tg_21, tg_24, tr_1, tr_2, tr_3, tr_5, tr_6, tr_7, tr_8, tr_10, tr_11, tr_22, tr_23, tp_0, tp_4, tp_9, tp_12, tp_13, tp_14, tp_15, tp_16, tp_17, tp_18, tp_19, tp_20, tp_21, tp_24, va_up_self, va_up_ne, va_uu, i_ofNat, i_add, i_mul, Nat.add_zero, Nat.zero_add, reduceIte, if_true, if_false, Nat.reduceEqDiff, ne_eq, not_false_eq_true, Nat.reduceEqDiff, not_true_eq_false, e0, e1, i_10, t_throws1]
theorem t_ledger0 (ok : okN (A 1)) {p y q : Int32} (hp : ¬ vS (A 1) p) : fX3_ledger m p y q Γ (tw m I A S h) n = some (.inl (Int32.ofNat 0), tw m (va_up I 0 (Int32.ofNat 1)) A S h, 0, 0) := by
  have e0 := t_noSpecies0 (Γ := Γ) (n := n) (m := m) (I := va_up I 0 (Int32.ofNat 0)) (S := S) (h := h) ok hp
  simp (maxDischargeDepth := 9) only [fX3_ledger_p46, fX3_ledger_p39, fX3_ledger_p34, fX3_ledger, xbind, xlet, xpure, tw_sel, tg_0, tg_4, tg_9, tg_12, tg_13, tg_14, tg_15, tg_16, tg_17, tg_18, tg_19, tg_20, tg_21, tg_24, tr_1, tr_2, tr_3, tr_5, tr_6, tr_7, tr_8, tr_10, tr_11, tr_22, tr_23, tp_0, tp_4, tp_9, tp_12, tp_13, tp_14, tp_15, tp_16, tp_17, tp_18, tp_19, tp_20, tp_21, tp_24, va_up_self, va_up_ne, va_uu, i_ofNat, i_add, i_mul, Nat.add_zero, Nat.zero_add, reduceIte, if_true, if_false, Nat.reduceEqDiff, ne_eq, not_false_eq_true, Nat.reduceEqDiff, not_true_eq_false, e0, i_10]
theorem t_worstYear_p19 (ok : okN (A 1)) {s : Nat} (hs : s < nn (A 1 0)) : ∀ (k x fu : Nat) (b : Option Nat), x + k = nn (A 1 2) → (∀ z, b = some z → z < x) → k < fu →
    fX3_worstYear_p19 fu m (Int32.ofNat s) (o2i b) (Int32.ofNat x) Γ (tw m I A S h) n = some (.inl (match pWo (fun k => pLP (A 4) (A 1) s k 5) k x b with | none => -Int32.ofNat 1 | some z => Int32.ofNat (pFY (A 1) + z)), tw m I A S h, 0, 0) := by
  have h2 := ok.2.2.2.2.1
  have h26 := ok.2.2.2.2.2.1
  have h1 := ok.2.2.2.1
  unfold nN at h2
  intro k
  induction k with
  | zero =>
    intro x fu b hx hb hf
    obtain ⟨fu, rfl⟩ : ∃ g, fu = g + 1 := ⟨fu - 1, by omega⟩
    have c1 : A 1 2 ≤ Int32.ofNat x := by rw [h2, i_le (by omega) (by omega)]; omega
    have e0 := t_firstYear (Γ := Γ) (n := n) (m := m) (I := I) (A := A) (S := S) (h := h) ok
    rw [fX3_worstYear_p19]
    cases b with
    | none => simp (maxDischargeDepth := 9) only [xbind, xlet, xpure, tw_sel, tg_0, tg_4, tg_9, tg_12, tg_13, tg_14, tg_15, tg_16, tg_17, tg_18, tg_19, tg_20, tg_21, tg_24, tr_1, tr_2, tr_3, tr_5, tr_6, tr_7, tr_8, tr_10, tr_11, tr_22, tr_23, tp_0, tp_4, tp_9, tp_12, tp_13, tp_14, tp_15, tp_16, tp_17, tp_18, tp_19, tp_20, tp_21, tp_24, va_up_self, va_up_ne, va_uu, i_ofNat, i_add, i_mul, Nat.add_zero, Nat.zero_add, reduceIte, if_true, if_false, Nat.reduceEqDiff, ne_eq, not_false_eq_true, Nat.reduceEqDiff, not_true_eq_false, tl_1 (show 2 < 592 by omega), c1, o2i, pWo]
    | some z =>
      have c2 := i_neg1 (show z < 2147483648 by have := hb z rfl; omega)
      simp (maxDischargeDepth := 9) only [xbind, xlet, xpure, tw_sel, tg_0, tg_4, tg_9, tg_12, tg_13, tg_14, tg_15, tg_16, tg_17, tg_18, tg_19, tg_20, tg_21, tg_24, tr_1, tr_2, tr_3, tr_5, tr_6, tr_7, tr_8, tr_10, tr_11, tr_22, tr_23, tp_0, tp_4, tp_9, tp_12, tp_13, tp_14, tp_15, tp_16, tp_17, tp_18, tp_19, tp_20, tp_21, tp_24, va_up_self, va_up_ne, va_uu, i_ofNat, i_add, i_mul, Nat.add_zero, Nat.zero_add, reduceIte, if_true, if_false, Nat.reduceEqDiff, ne_eq, not_false_eq_true, Nat.reduceEqDiff, not_true_eq_false, tl_1 (show 2 < 592 by omega), c1, o2i, pWo, c2, e0]
  | succ k ih =>
    intro x fu b hx hb hf
    obtain ⟨fu, rfl⟩ : ∃ g, fu = g + 1 := ⟨fu - 1, by omega⟩
    have c1 : ¬ A 1 2 ≤ Int32.ofNat x := by rw [h2, i_le (by omega) (by omega)]; omega
    have ex := ih (x + 1) fu (some x) (by omega) (fun z hz => by cases hz; omega) (by omega)
    rw [fX3_worstYear_p19]
    cases b with
    | none =>
      simp only [o2i] at ex
      simp (maxDischargeDepth := 9) only [xbind, xlet, xpure, tw_sel, tg_0, tg_4, tg_9, tg_12, tg_13, tg_14, tg_15, tg_16, tg_17, tg_18, tg_19, tg_20, tg_21, tg_24, tr_1, tr_2, tr_3, tr_5, tr_6, tr_7, tr_8, tr_10, tr_11, tr_22, tr_23, tp_0, tp_4, tp_9, tp_12, tp_13, tp_14, tp_15, tp_16, tp_17, tp_18, tp_19, tp_20, tp_21, tp_24, va_up_self, va_up_ne, va_uu, i_ofNat, i_add, i_mul, Nat.add_zero, Nat.zero_add, reduceIte, if_true, if_false, Nat.reduceEqDiff, ne_eq, not_false_eq_true, Nat.reduceEqDiff, not_true_eq_false, tl_1 (show 2 < 592 by omega), c1, o2i, pWo, fX3_worstYear_p51, fX3_worstYear_p53, ex]
    | some z =>
      have hz := hb z rfl
      have c2 := i_neg1 (show z < 2147483648 by omega)
      have e1 := t_ledgerPart (Γ := Γ) (n := n) (m := m) (I := I) (A := A) (S := S) (h := h) ok (k := x) hs (by omega) (show 5 < 7 by omega)
      have e2 := t_ledgerPart (Γ := Γ) (n := n) (m := m) (I := I) (A := A) (S := S) (h := h) ok (k := z) hs (by omega) (show 5 < 7 by omega)
      have ez := ih (x + 1) fu (some z) (by omega) (fun y hy => by cases hy; omega) (by omega)
      simp only [o2i] at ex ez
      by_cases c3 : pLP (A 4) (A 1) s z 5 < pLP (A 4) (A 1) s x 5
      · simp (maxDischargeDepth := 9) only [xbind, xlet, xpure, tw_sel, tg_0, tg_4, tg_9, tg_12, tg_13, tg_14, tg_15, tg_16, tg_17, tg_18, tg_19, tg_20, tg_21, tg_24, tr_1, tr_2, tr_3, tr_5, tr_6, tr_7, tr_8, tr_10, tr_11, tr_22, tr_23, tp_0, tp_4, tp_9, tp_12, tp_13, tp_14, tp_15, tp_16, tp_17, tp_18, tp_19, tp_20, tp_21, tp_24, va_up_self, va_up_ne, va_uu, i_ofNat, i_add, i_mul, Nat.add_zero, Nat.zero_add, reduceIte, if_true, if_false, Nat.reduceEqDiff, ne_eq, not_false_eq_true, Nat.reduceEqDiff, not_true_eq_false, tl_1 (show 2 < 592 by omega), c1, o2i, pWo, c2, e1, e2, c3, fX3_worstYear_p51, fX3_worstYear_p53, ez]
      · simp (maxDischargeDepth := 9) only [xbind, xlet, xpure, tw_sel, tg_0, tg_4, tg_9, tg_12, tg_13, tg_14, tg_15, tg_16, tg_17, tg_18, tg_19, tg_20, tg_21, tg_24, tr_1, tr_2, tr_3, tr_5, tr_6, tr_7, tr_8, tr_10, tr_11, tr_22, tr_23, tp_0, tp_4, tp_9, tp_12, tp_13, tp_14, tp_15, tp_16, tp_17, tp_18, tp_19, tp_20, tp_21, tp_24, va_up_self, va_up_ne, va_uu, i_ofNat, i_add, i_mul, Nat.add_zero, Nat.zero_add, reduceIte, if_true, if_false, Nat.reduceEqDiff, ne_eq, not_false_eq_true, Nat.reduceEqDiff, not_true_eq_false, tl_1 (show 2 < 592 by omega), c1, o2i, pWo, c2, e1, e2, c3, fX3_worstYear_p51, fX3_worstYear_p53, ex]
def pWorst (L N : Nat → Int32) (s : Nat) : Int32 := match pWo (fun k => pLP L N s k 5) (nn (N 2)) 0 none with
  | none => -Int32.ofNat 1
  | some z => Int32.ofNat (pFY N + z)
theorem t_worstYear1 (ok : okN (A 1)) {s : Nat} (hs : s < nn (A 1 0)) : fX3_worstYear m (Int32.ofNat s) Γ (tw m I A S h) n = some (.inl (pWorst (A 4) (A 1) s), tw m (va_up I 0 (Int32.ofNat 0)) A S h, 0, 0) := by
  have h4 := ok.2.1
  have e0 := t_noSpecies1 (Γ := Γ) (n := n) (m := m) (I := va_up I 0 (Int32.ofNat 0)) (S := S) (h := h) ok (vS_of hs h4)
  have e1 := t_worstYear_p19 (Γ := Γ) (n := n) (m := m) (I := va_up I 0 (Int32.ofNat 0)) (S := S) (h := h) ok hs (nn (A 1 2)) 0 xFU none (by omega) (fun z hz => by cases hz) (by have := ok.2.2.2.1; have := ok.2.2.2.2.2.1; unfold xFU; omega)
  simp only [o2i] at e1
  simp (maxDischargeDepth := 9) only [fX3_worstYear_p53, fX3_worstYear_p51, fX3_worstYear, xbind, xlet, xpure, tw_sel, tg_0, tg_4, tg_9, tg_12, tg_13, tg_14, tg_15, tg_16, tg_17, tg_18, tg_19, tg_20, tg_21, tg_24, tr_1, tr_2, tr_3, tr_5, tr_6, tr_7, tr_8, tr_10, tr_11, tr_22, tr_23, tp_0, tp_4, tp_9, tp_12, tp_13, tp_14, tp_15, tp_16, tp_17, tp_18, tp_19, tp_20, tp_21, tp_24, va_up_self, va_up_ne, va_uu, i_ofNat, i_add, i_mul, Nat.add_zero, Nat.zero_add, reduceIte, if_true, if_false, Nat.reduceEqDiff, ne_eq, not_false_eq_true, Nat.reduceEqDiff, not_true_eq_false, e0, e1]
  rfl
theorem t_worstYear0 (ok : okN (A 1)) {p : Int32} (hp : ¬ vS (A 1) p) : fX3_worstYear m p Γ (tw m I A S h) n = some (.inl (Int32.ofNat 0), tw m (va_up I 0 (Int32.ofNat 1)) A S h, 0, 0) := by
  have e0 := t_noSpecies0 (Γ := Γ) (n := n) (m := m) (I := va_up I 0 (Int32.ofNat 0)) (S := S) (h := h) ok hp
  simp (maxDischargeDepth := 9) only [fX3_worstYear_p53, fX3_worstYear_p51, fX3_worstYear, xbind, xlet, xpure, tw_sel, tg_0, tg_4, tg_9, tg_12, tg_13, tg_14, tg_15, tg_16, tg_17, tg_18, tg_19, tg_20, tg_21, tg_24, tr_1, tr_2, tr_3, tr_5, tr_6, tr_7, tr_8, tr_10, tr_11, tr_22, tr_23, tp_0, tp_4, tp_9, tp_12, tp_13, tp_14, tp_15, tp_16, tp_17, tp_18, tp_19, tp_20, tp_21, tp_24, va_up_self, va_up_ne, va_uu, i_ofNat, i_add, i_mul, Nat.add_zero, Nat.zero_add, reduceIte, if_true, if_false, Nat.reduceEqDiff, ne_eq, not_false_eq_true, Nat.reduceEqDiff, not_true_eq_false, e0, i_10]
theorem t_sum_p45 (ok : okN (A 1)) {s w : Nat} (hs : s < nn (A 1 0)) (hw : w < 7) : ∀ (k x fu : Nat) (acc : Int64), x + k = nn (A 1 2) + 1 → k < fu →
    fX3_sum_p45 fu m (Int32.ofNat s) (Int32.ofNat w) acc (Int32.ofNat x) Γ (tw m I A S h) n = some (.inl (acc + jsum (fun k => (pLP (A 4) (A 1) s k w).toInt64) x k), tw m I A S h, 0, 0) := by
  have h2 := ok.2.2.2.2.1
  have h26 := ok.2.2.2.2.2.1
  have h1 := ok.2.2.2.1
  unfold nN at h2
  intro k
  induction k with
  | zero =>
    intro x fu acc hx hf
    obtain ⟨fu, rfl⟩ : ∃ g, fu = g + 1 := ⟨fu - 1, by omega⟩
    have c1 : A 1 2 < Int32.ofNat x := by rw [h2, i_lt (by omega) (by omega)]; omega
    rw [fX3_sum_p45]
    simp (maxDischargeDepth := 9) only [xbind, xlet, xpure, tw_sel, tg_0, tg_4, tg_9, tg_12, tg_13, tg_14, tg_15, tg_16, tg_17, tg_18, tg_19, tg_20, tg_21, tg_24, tr_1, tr_2, tr_3, tr_5, tr_6, tr_7, tr_8, tr_10, tr_11, tr_22, tr_23, tp_0, tp_4, tp_9, tp_12, tp_13, tp_14, tp_15, tp_16, tp_17, tp_18, tp_19, tp_20, tp_21, tp_24, va_up_self, va_up_ne, va_uu, i_ofNat, i_add, i_mul, Nat.add_zero, Nat.zero_add, reduceIte, if_true, if_false, Nat.reduceEqDiff, ne_eq, not_false_eq_true, Nat.reduceEqDiff, not_true_eq_false, tl_1 (show 2 < 592 by omega), c1, jsum, Int64.add_zero]
  | succ k ih =>
    intro x fu acc hx hf
    obtain ⟨fu, rfl⟩ : ∃ g, fu = g + 1 := ⟨fu - 1, by omega⟩
    have c1 : ¬ A 1 2 < Int32.ofNat x := by rw [h2, i_lt (by omega) (by omega)]; omega
    have e1 := t_ledgerPart (Γ := Γ) (n := n) (m := m) (I := I) (A := A) (S := S) (h := h) ok (k := x) hs (by omega) hw
    have e2 := ih (x + 1) fu (acc + (pLP (A 4) (A 1) s x w).toInt64) (by omega) (by omega)
    rw [fX3_sum_p45]
    simp (maxDischargeDepth := 9) only [xbind, xlet, xpure, tw_sel, tg_0, tg_4, tg_9, tg_12, tg_13, tg_14, tg_15, tg_16, tg_17, tg_18, tg_19, tg_20, tg_21, tg_24, tr_1, tr_2, tr_3, tr_5, tr_6, tr_7, tr_8, tr_10, tr_11, tr_22, tr_23, tp_0, tp_4, tp_9, tp_12, tp_13, tp_14, tp_15, tp_16, tp_17, tp_18, tp_19, tp_20, tp_21, tp_24, va_up_self, va_up_ne, va_uu, i_ofNat, i_add, i_mul, Nat.add_zero, Nat.zero_add, reduceIte, if_true, if_false, Nat.reduceEqDiff, ne_eq, not_false_eq_true, Nat.reduceEqDiff, not_true_eq_false, tl_1 (show 2 < 592 by omega), c1, e1, e2, jsum, Int64.add_assoc]
theorem t_sum1 (ok : okN (A 1)) {s w : Nat} (hs : s < nn (A 1 0)) (hw1 : 1 ≤ w) (hw4 : w ≤ 4) : fX3_sum m (Int32.ofNat s) (Int32.ofNat w) Γ (tw m I A S h) n = some (.inl (jsum (fun k => (pLP (A 4) (A 1) s k w).toInt64) 0 (nn (A 1 2) + 1)), tw m (va_up I 0 (Int32.ofNat 0)) A S h, 0, 0) := by
  have h4 := ok.2.1
  have e0 := t_noSpecies1 (Γ := Γ) (n := n) (m := m) (I := va_up I 0 (Int32.ofNat 0)) (S := S) (h := h) ok (vS_of hs h4)
  have e1 := t_in1 (Γ := Γ) (h := tw m (va_up I 0 (Int32.ofNat 0)) A S h) (n := n) (a := (Int32.ofNat w).toInt64) (b := 1) (c := 4) (by rw [Int32.toInt_toInt64, i_toInt (by omega)]; show (1 : Int) ≤ w; omega) (by rw [Int32.toInt_toInt64, i_toInt (by omega)]; show (w : Int) ≤ 4; omega)
  have e2 := t_sum_p45 (Γ := Γ) (n := n) (m := m) (I := va_up I 0 (Int32.ofNat 0)) (S := S) (h := h) ok hs (show w < 7 by omega) (nn (A 1 2) + 1) 0 xFU 0 (by omega) (by have := ok.2.2.2.1; have := ok.2.2.2.2.2.1; unfold xFU; omega)
  rw [Int64.zero_add] at e2
  simp (maxDischargeDepth := 9) only [fX3_sum_p38, fX3_sum_p31, fX3_sum, xbind, xlet, xpure, tw_sel, tg_0, tg_4, tg_9, tg_12, tg_13, tg_14, tg_15, tg_16, tg_17, tg_18, tg_19, tg_20, tg_21, tg_24, tr_1, tr_2, tr_3, tr_5, tr_6, tr_7, tr_8, tr_10, tr_11, tr_22, tr_23, tp_0, tp_4, tp_9, tp_12, tp_13, tp_14, tp_15, tp_16, tp_17, tp_18, tp_19, tp_20, tp_21, tp_24, va_up_self, va_up_ne, va_uu, i_ofNat, i_add, i_mul, Nat.add_zero, Nat.zero_add, reduceIte, if_true, if_false, Nat.reduceEqDiff, ne_eq, not_false_eq_true, Nat.reduceEqDiff, not_true_eq_false, e0, e1, e2, i_10, t_throws0]
theorem t_sum2 (ok : okN (A 1)) {p q : Int32} (hp : vS (A 1) p) (hq : ¬ (1 ≤ q.toInt ∧ q.toInt ≤ 4)) : fX3_sum m p q Γ (tw m I A S h) n = some (.inl 0, tw m (va_up I 0 (Int32.ofNat 2)) A S h, 0, 0) := by
  have e0 := t_noSpecies1 (Γ := Γ) (n := n) (m := m) (I := va_up I 0 (Int32.ofNat 0)) (S := S) (h := h) ok hp
  have e1 := t_in0 (Γ := Γ) (h := tw m (va_up I 0 (Int32.ofNat 0)) A S h) (n := n) (a := q.toInt64) (b := 1) (c := 4) (by rw [Int32.toInt_toInt64]; exact hq)
  simp (maxDischargeDepth := 9) only [fX3_sum_p38, fX3_sum_p31, fX3_sum, xbind, xlet, xpure, tw_sel, tg_0, tg_4, tg_9, tg_12, tg_13, tg_14, tg_15, tg_16, tg_17, tg_18, tg_19, tg_20, tg_21, tg_24, tr_1, tr_2, tr_3, tr_5, tr_6, tr_7, tr_8, tr_10, tr_11, tr_22, tr_23, tp_0, tp_4, tp_9, tp_12, tp_13, tp_14, tp_15, tp_16, tp_17, tp_18, tp_19, tp_20, tp_21, tp_24, va_up_self, va_up_ne, va_uu, i_ofNat, i_add, i_mul, Nat.add_zero, Nat.zero_add, reduceIte, if_true, if_false, Nat.reduceEqDiff, ne_eq, not_false_eq_true, Nat.reduceEqDiff, not_true_eq_false, e0, e1, i_10, t_throws1]
theorem t_sum0 (ok : okN (A 1)) {p q : Int32} (hp : ¬ vS (A 1) p) : fX3_sum m p q Γ (tw m I A S h) n = some (.inl 0, tw m (va_up I 0 (Int32.ofNat 1)) A S h, 0, 0) := by
  have e0 := t_noSpecies0 (Γ := Γ) (n := n) (m := m) (I := va_up I 0 (Int32.ofNat 0)) (S := S) (h := h) ok hp
  simp (maxDischargeDepth := 9) only [fX3_sum_p38, fX3_sum_p31, fX3_sum, xbind, xlet, xpure, tw_sel, tg_0, tg_4, tg_9, tg_12, tg_13, tg_14, tg_15, tg_16, tg_17, tg_18, tg_19, tg_20, tg_21, tg_24, tr_1, tr_2, tr_3, tr_5, tr_6, tr_7, tr_8, tr_10, tr_11, tr_22, tr_23, tp_0, tp_4, tp_9, tp_12, tp_13, tp_14, tp_15, tp_16, tp_17, tp_18, tp_19, tp_20, tp_21, tp_24, va_up_self, va_up_ne, va_uu, i_ofNat, i_add, i_mul, Nat.add_zero, Nat.zero_add, reduceIte, if_true, if_false, Nat.reduceEqDiff, ne_eq, not_false_eq_true, Nat.reduceEqDiff, not_true_eq_false, e0, i_10]
theorem t_isGood (ok : okN (A 1)) {s k : Nat} (hs : s < nn (A 1 0)) (hk : k ≤ nn (A 1 2)) : fX3_isGood m (Int32.ofNat s) (Int32.ofNat k) Γ (tw m I A S h) n = some (.inl (b2i (pGood (A 4) (A 1) s k)), tw m I A S h, 0, 0) := by
  have h2 := ok.2.2.2.2.1
  have h26 := ok.2.2.2.2.2.1
  have h1 := ok.2.2.2.1
  unfold nN at h2
  have e := fun (w : Nat) (hw : w < 7) => t_ledgerPart (Γ := Γ) (n := n) (m := m) (I := I) (A := A) (S := S) (h := h) ok hs hk hw
  have lit : (Int32.ofNat k = A 1 2) ↔ k = nn (A 1 2) := by
    rw [h2, i_eq (by omega) (by omega), ← h2]
  unfold pGood
  by_cases c1 : ((((pLP (A 4) (A 1) s k 0).toInt64 + (pLP (A 4) (A 1) s k 1).toInt64) + (pLP (A 4) (A 1) s k 4).toInt64) - (pLP (A 4) (A 1) s k 2).toInt64) - (pLP (A 4) (A 1) s k 3).toInt64 = (pLP (A 4) (A 1) s k 5).toInt64
  · have d1 := eq_true (j_cmpE.mpr c1)
    by_cases c2 : k = nn (A 1 2)
    · have d2 := eq_true (lit.mpr c2)
      simp (maxDischargeDepth := 9) only [fX3_isGood_p87, fX3_isGood, xbind, xlet, xpure, tw_sel, tg_0, tg_4, tg_9, tg_12, tg_13, tg_14, tg_15, tg_16, tg_17, tg_18, tg_19, tg_20, tg_21, tg_24, tr_1, tr_2, tr_3, tr_5, tr_6, tr_7, tr_8, tr_10, tr_11, tr_22, tr_23, tp_0, tp_4, tp_9, tp_12, tp_13, tp_14, tp_15, tp_16, tp_17, tp_18, tp_19, tp_20, tp_21, tp_24, va_up_self, va_up_ne, va_uu, i_ofNat, i_add, i_mul, Nat.add_zero, Nat.zero_add, reduceIte, if_true, if_false, Nat.reduceEqDiff, ne_eq, not_false_eq_true, Nat.reduceEqDiff, not_true_eq_false, e 0 (by omega), e 1 (by omega), e 4 (by omega), e 2 (by omega), e 3 (by omega), e 5 (by omega), d1, tl_1 (show 2 < 592 by omega), d2, eq_true c1, eq_true c2, decide_true, Bool.true_or, Bool.and_self, b2i]
    · have d2 : ¬ (Int32.ofNat k = A 1 2) := fun q => c2 (lit.mp q)
      have e9 := t_ledgerPart (Γ := Γ) (n := n) (m := m) (I := I) (A := A) (S := S) (h := h) ok (k := k + 1) hs (by omega) (show 0 < 7 by omega)
      by_cases c3 : pLP (A 4) (A 1) s k 5 = pLP (A 4) (A 1) s (k + 1) 0
      · simp (maxDischargeDepth := 9) only [fX3_isGood_p87, fX3_isGood, xbind, xlet, xpure, tw_sel, tg_0, tg_4, tg_9, tg_12, tg_13, tg_14, tg_15, tg_16, tg_17, tg_18, tg_19, tg_20, tg_21, tg_24, tr_1, tr_2, tr_3, tr_5, tr_6, tr_7, tr_8, tr_10, tr_11, tr_22, tr_23, tp_0, tp_4, tp_9, tp_12, tp_13, tp_14, tp_15, tp_16, tp_17, tp_18, tp_19, tp_20, tp_21, tp_24, va_up_self, va_up_ne, va_uu, i_ofNat, i_add, i_mul, Nat.add_zero, Nat.zero_add, reduceIte, if_true, if_false, Nat.reduceEqDiff, ne_eq, not_false_eq_true, Nat.reduceEqDiff, not_true_eq_false, e 0 (by omega), e 1 (by omega), e 4 (by omega), e 2 (by omega), e 3 (by omega), e 5 (by omega), d1, tl_1 (show 2 < 592 by omega), d2, e9, eq_true c3, eq_true c1, c2, decide_true, decide_false, Bool.false_or, Bool.and_self, b2i]
      · simp (maxDischargeDepth := 9) only [fX3_isGood_p87, fX3_isGood, xbind, xlet, xpure, tw_sel, tg_0, tg_4, tg_9, tg_12, tg_13, tg_14, tg_15, tg_16, tg_17, tg_18, tg_19, tg_20, tg_21, tg_24, tr_1, tr_2, tr_3, tr_5, tr_6, tr_7, tr_8, tr_10, tr_11, tr_22, tr_23, tp_0, tp_4, tp_9, tp_12, tp_13, tp_14, tp_15, tp_16, tp_17, tp_18, tp_19, tp_20, tp_21, tp_24, va_up_self, va_up_ne, va_uu, i_ofNat, i_add, i_mul, Nat.add_zero, Nat.zero_add, reduceIte, if_true, if_false, Nat.reduceEqDiff, ne_eq, not_false_eq_true, Nat.reduceEqDiff, not_true_eq_false, e 0 (by omega), e 1 (by omega), e 4 (by omega), e 2 (by omega), e 3 (by omega), e 5 (by omega), d1, tl_1 (show 2 < 592 by omega), d2, e9, c3, eq_true c1, c2, decide_true, decide_false, Bool.false_or, Bool.and_false, b2i, Bool.false_eq_true]
  · have d1 : ¬ lg_cmp _ _ = Int32.ofNat 0 := fun q => c1 (j_cmpE.mp q)
    simp (maxDischargeDepth := 9) only [fX3_isGood_p87, fX3_isGood, xbind, xlet, xpure, tw_sel, tg_0, tg_4, tg_9, tg_12, tg_13, tg_14, tg_15, tg_16, tg_17, tg_18, tg_19, tg_20, tg_21, tg_24, tr_1, tr_2, tr_3, tr_5, tr_6, tr_7, tr_8, tr_10, tr_11, tr_22, tr_23, tp_0, tp_4, tp_9, tp_12, tp_13, tp_14, tp_15, tp_16, tp_17, tp_18, tp_19, tp_20, tp_21, tp_24, va_up_self, va_up_ne, va_uu, i_ofNat, i_add, i_mul, Nat.add_zero, Nat.zero_add, reduceIte, if_true, if_false, Nat.reduceEqDiff, ne_eq, not_false_eq_true, Nat.reduceEqDiff, not_true_eq_false, e 0 (by omega), e 1 (by omega), e 4 (by omega), e 2 (by omega), e 3 (by omega), e 5 (by omega), d1, c1, decide_false, Bool.false_and, b2i, Bool.false_eq_true]
theorem t_isBalanced_p21 (ok : okN (A 1)) {s : Nat} (hs : s < nn (A 1 0)) (k9 : Nat → Int32 → Int32 → xM Int32) : ∀ (k x fu : Nat) (b : Bool), x + k = nn (A 1 2) + 1 → k < fu →
    fX3_isBalanced_p21 k9 fu m (b2i b) (Int32.ofNat s) (Int32.ofNat x) Γ (tw m I A S h) n = k9 m (b2i (pGoods (A 4) (A 1) s x k b)) (Int32.ofNat (s + 1)) Γ (tw m I A S h) n := by
  have h2 := ok.2.2.2.2.1
  have h26 := ok.2.2.2.2.2.1
  have h1 := ok.2.2.2.1
  unfold nN at h2
  intro k
  induction k with
  | zero =>
    intro x fu b hx hf
    obtain ⟨fu, rfl⟩ : ∃ g, fu = g + 1 := ⟨fu - 1, by omega⟩
    have c1 : A 1 2 < Int32.ofNat x := by rw [h2, i_lt (by omega) (by omega)]; omega
    rw [fX3_isBalanced_p21]
    simp (maxDischargeDepth := 9) only [xbind, xlet, xpure, tw_sel, tg_0, tg_4, tg_9, tg_12, tg_13, tg_14, tg_15, tg_16, tg_17, tg_18, tg_19, tg_20, tg_21, tg_24, tr_1, tr_2, tr_3, tr_5, tr_6, tr_7, tr_8, tr_10, tr_11, tr_22, tr_23, tp_0, tp_4, tp_9, tp_12, tp_13, tp_14, tp_15, tp_16, tp_17, tp_18, tp_19, tp_20, tp_21, tp_24, va_up_self, va_up_ne, va_uu, i_ofNat, i_add, i_mul, Nat.add_zero, Nat.zero_add, reduceIte, if_true, if_false, Nat.reduceEqDiff, ne_eq, not_false_eq_true, Nat.reduceEqDiff, not_true_eq_false, tl_1 (show 2 < 592 by omega), c1, pGoods]
    cases k9 m (b2i b) (Int32.ofNat (s + 1)) Γ (tw m I A S h) n <;> rfl
  | succ k ih =>
    intro x fu b hx hf
    obtain ⟨fu, rfl⟩ : ∃ g, fu = g + 1 := ⟨fu - 1, by omega⟩
    have c1 : ¬ A 1 2 < Int32.ofNat x := by rw [h2, i_lt (by omega) (by omega)]; omega
    have e1 := t_isGood (Γ := Γ) (n := n) (m := m) (I := I) (A := A) (S := S) (h := h) ok (k := x) hs (by omega)
    have e2 := ih (x + 1) fu (b && pGood (A 4) (A 1) s x) (by omega) (by omega)
    rw [fX3_isBalanced_p21]
    cases b
    · simp only [Bool.false_and, b2i_f] at e2
      simp (maxDischargeDepth := 9) only [xbind, xlet, xpure, tw_sel, tg_0, tg_4, tg_9, tg_12, tg_13, tg_14, tg_15, tg_16, tg_17, tg_18, tg_19, tg_20, tg_21, tg_24, tr_1, tr_2, tr_3, tr_5, tr_6, tr_7, tr_8, tr_10, tr_11, tr_22, tr_23, tp_0, tp_4, tp_9, tp_12, tp_13, tp_14, tp_15, tp_16, tp_17, tp_18, tp_19, tp_20, tp_21, tp_24, va_up_self, va_up_ne, va_uu, i_ofNat, i_add, i_mul, Nat.add_zero, Nat.zero_add, reduceIte, if_true, if_false, Nat.reduceEqDiff, ne_eq, not_false_eq_true, Nat.reduceEqDiff, not_true_eq_false, tl_1 (show 2 < 592 by omega), c1, b2i_f, fX3_isBalanced_p48, fX3_isBalanced_p49, e2, pGoods, Bool.false_and]
      cases k9 m (b2i (pGoods (A 4) (A 1) s (x + 1) k false)) (Int32.ofNat (s + 1)) Γ (tw m I A S h) n <;> rfl
    · cases hg : pGood (A 4) (A 1) s x
      · rw [hg] at e1 e2
        simp only [Bool.and_false, b2i_f] at e1 e2
        simp (maxDischargeDepth := 9) only [xbind, xlet, xpure, tw_sel, tg_0, tg_4, tg_9, tg_12, tg_13, tg_14, tg_15, tg_16, tg_17, tg_18, tg_19, tg_20, tg_21, tg_24, tr_1, tr_2, tr_3, tr_5, tr_6, tr_7, tr_8, tr_10, tr_11, tr_22, tr_23, tp_0, tp_4, tp_9, tp_12, tp_13, tp_14, tp_15, tp_16, tp_17, tp_18, tp_19, tp_20, tp_21, tp_24, va_up_self, va_up_ne, va_uu, i_ofNat, i_add, i_mul, Nat.add_zero, Nat.zero_add, reduceIte, if_true, if_false, Nat.reduceEqDiff, ne_eq, not_false_eq_true, Nat.reduceEqDiff, not_true_eq_false, tl_1 (show 2 < 592 by omega), c1, b2i_t, i_10, e1, fX3_isBalanced_p48, fX3_isBalanced_p49, e2, pGoods, hg, Bool.and_false]
        cases k9 m (b2i (pGoods (A 4) (A 1) s (x + 1) k false)) (Int32.ofNat (s + 1)) Γ (tw m I A S h) n <;> rfl
      · rw [hg] at e1 e2
        simp only [Bool.and_self, b2i_t] at e1 e2
        simp (maxDischargeDepth := 9) only [xbind, xlet, xpure, tw_sel, tg_0, tg_4, tg_9, tg_12, tg_13, tg_14, tg_15, tg_16, tg_17, tg_18, tg_19, tg_20, tg_21, tg_24, tr_1, tr_2, tr_3, tr_5, tr_6, tr_7, tr_8, tr_10, tr_11, tr_22, tr_23, tp_0, tp_4, tp_9, tp_12, tp_13, tp_14, tp_15, tp_16, tp_17, tp_18, tp_19, tp_20, tp_21, tp_24, va_up_self, va_up_ne, va_uu, i_ofNat, i_add, i_mul, Nat.add_zero, Nat.zero_add, reduceIte, if_true, if_false, Nat.reduceEqDiff, ne_eq, not_false_eq_true, Nat.reduceEqDiff, not_true_eq_false, tl_1 (show 2 < 592 by omega), c1, b2i_t, i_10, e1, fX3_isBalanced_p48, fX3_isBalanced_p49, e2, pGoods, hg, Bool.and_self]
        cases k9 m (b2i (pGoods (A 4) (A 1) s (x + 1) k true)) (Int32.ofNat (s + 1)) Γ (tw m I A S h) n <;> rfl
theorem t_isBalanced_p9 (ok : okN (A 1)) : ∀ (k s fu : Nat) (b : Bool), s + k = nn (A 1 0) → k < fu →
    fX3_isBalanced_p9 fu m (b2i b) (Int32.ofNat s) Γ (tw m I A S h) n = some (.inl (b2i (pGoodA (A 4) (A 1) s k b)), tw m I A S h, 0, 0) := by
  have h0 := ok.1
  have h4 := ok.2.1
  unfold nN at h0
  intro k
  induction k with
  | zero =>
    intro s fu b hs hf
    obtain ⟨fu, rfl⟩ : ∃ g, fu = g + 1 := ⟨fu - 1, by omega⟩
    have c1 : A 1 0 ≤ Int32.ofNat s := by rw [h0, i_le (by omega) (by omega)]; omega
    rw [fX3_isBalanced_p9]
    cases b
    · simp (maxDischargeDepth := 9) only [xbind, xlet, xpure, tw_sel, tg_0, tg_4, tg_9, tg_12, tg_13, tg_14, tg_15, tg_16, tg_17, tg_18, tg_19, tg_20, tg_21, tg_24, tr_1, tr_2, tr_3, tr_5, tr_6, tr_7, tr_8, tr_10, tr_11, tr_22, tr_23, tp_0, tp_4, tp_9, tp_12, tp_13, tp_14, tp_15, tp_16, tp_17, tp_18, tp_19, tp_20, tp_21, tp_24, va_up_self, va_up_ne, va_uu, i_ofNat, i_add, i_mul, Nat.add_zero, Nat.zero_add, reduceIte, if_true, if_false, Nat.reduceEqDiff, ne_eq, not_false_eq_true, Nat.reduceEqDiff, not_true_eq_false, tl_1 (show 0 < 592 by omega), c1, b2i, Bool.false_eq_true, x_ret0, pGoodA]
    · simp (maxDischargeDepth := 9) only [xbind, xlet, xpure, tw_sel, tg_0, tg_4, tg_9, tg_12, tg_13, tg_14, tg_15, tg_16, tg_17, tg_18, tg_19, tg_20, tg_21, tg_24, tr_1, tr_2, tr_3, tr_5, tr_6, tr_7, tr_8, tr_10, tr_11, tr_22, tr_23, tp_0, tp_4, tp_9, tp_12, tp_13, tp_14, tp_15, tp_16, tp_17, tp_18, tp_19, tp_20, tp_21, tp_24, va_up_self, va_up_ne, va_uu, i_ofNat, i_add, i_mul, Nat.add_zero, Nat.zero_add, reduceIte, if_true, if_false, Nat.reduceEqDiff, ne_eq, not_false_eq_true, Nat.reduceEqDiff, not_true_eq_false, tl_1 (show 0 < 592 by omega), c1, b2i, x_ret1, pGoodA]
  | succ k ih =>
    intro s fu b hs hf
    obtain ⟨fu, rfl⟩ : ∃ g, fu = g + 1 := ⟨fu - 1, by omega⟩
    have c1 : ¬ A 1 0 ≤ Int32.ofNat s := by rw [h0, i_le (by omega) (by omega)]; omega
    have e1 := t_isBalanced_p21 (Γ := Γ) (n := n) (m := m) (I := I) (A := A) (S := S) (h := h) ok (s := s) (by omega) (fX3_isBalanced_p9 fu) (nn (A 1 2) + 1) 0 xFU b (by omega) (by have := ok.2.2.2.1; have := ok.2.2.2.2.2.1; unfold xFU; omega)
    have e2 := ih (s + 1) fu (pGoods (A 4) (A 1) s 0 (nn (A 1 2) + 1) b) (by omega) (by omega)
    rw [fX3_isBalanced_p9]
    simp (maxDischargeDepth := 9) only [xbind, xlet, xpure, tw_sel, tg_0, tg_4, tg_9, tg_12, tg_13, tg_14, tg_15, tg_16, tg_17, tg_18, tg_19, tg_20, tg_21, tg_24, tr_1, tr_2, tr_3, tr_5, tr_6, tr_7, tr_8, tr_10, tr_11, tr_22, tr_23, tp_0, tp_4, tp_9, tp_12, tp_13, tp_14, tp_15, tp_16, tp_17, tp_18, tp_19, tp_20, tp_21, tp_24, va_up_self, va_up_ne, va_uu, i_ofNat, i_add, i_mul, Nat.add_zero, Nat.zero_add, reduceIte, if_true, if_false, Nat.reduceEqDiff, ne_eq, not_false_eq_true, Nat.reduceEqDiff, not_true_eq_false, tl_1 (show 0 < 592 by omega), c1, e1, e2, pGoodA]
theorem t_isBalanced (ok : okN (A 1)) : fX3_isBalanced m Γ (tw m I A S h) n = some (.inl (b2i (pGoodA (A 4) (A 1) 0 (nn (A 1 0)) true)), tw m (va_up I 0 (Int32.ofNat 0)) A S h, 0, 0) := by
  have e := t_isBalanced_p9 (Γ := Γ) (n := n) (m := m) (I := va_up I 0 (Int32.ofNat 0)) (A := A) (S := S) (h := h) ok (nn (A 1 0)) 0 xFU true (by omega) (by have := ok.2.1; unfold xFU; omega)
  have u : b2i true = Int32.ofNat 1 := rfl
  rw [u] at e
  simp (maxDischargeDepth := 9) only [fX3_isBalanced_p49, fX3_isBalanced_p48, fX3_isBalanced, xbind, xlet, xpure, tw_sel, tg_0, tg_4, tg_9, tg_12, tg_13, tg_14, tg_15, tg_16, tg_17, tg_18, tg_19, tg_20, tg_21, tg_24, tr_1, tr_2, tr_3, tr_5, tr_6, tr_7, tr_8, tr_10, tr_11, tr_22, tr_23, tp_0, tp_4, tp_9, tp_12, tp_13, tp_14, tp_15, tp_16, tp_17, tp_18, tp_19, tp_20, tp_21, tp_24, va_up_self, va_up_ne, va_uu, i_ofNat, i_add, i_mul, Nat.add_zero, Nat.zero_add, reduceIte, if_true, if_false, Nat.reduceEqDiff, ne_eq, not_false_eq_true, Nat.reduceEqDiff, not_true_eq_false, e]
end TW12
