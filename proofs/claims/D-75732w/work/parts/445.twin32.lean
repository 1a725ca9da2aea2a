/-! part 445: the twin: reproduction, generation, pooled, speciesNamed -/
def pBorn (N : Nat → Int32) (s x : Nat) : Int64 := (pAliveOf N s x).toInt64 * (N (zI s (26 + x))).toInt64
def pRep (N : Nat → Int32) (s : Nat) : Nat → Nat → Int64 → Int64
  | _, 0, v => v
  | x, k + 1, v => pRep N s (x + 1) k (v + pBorn N s x)
def pRepA (N : Nat → Int32) (s : Nat) : Nat → Nat → Int64 → Int64
  | _, 0, v => v
  | x, k + 1, v => pRepA N s (x + 1) k (v + (Int32.ofNat x).toInt64 * pBorn N s x)
def pQuo (a b : Int64) : UInt64 := if b = 0 then FP.dconst0 else FP.ddiv (FP.l2d a) (FP.l2d b)
theorem d_e8 : dNz (4726483295884279808 : UInt64) := ⟨false, 6710886400000000, -26, by decide, by decide⟩
theorem d_j0 {b : Int64} (h : b ≠ 0) : b.toInt ≠ 0 := by
  intro q
  apply h
  rw [← Int64.toInt_inj, q]
  rfl
def pPoolM (N : Nat → Int32) (s : Nat) : Nat → Nat → Int64 → Int64
  | _, 0, v => v
  | x, k + 1, v => pPoolM N s (x + 1) k (v + (pSg N s x 2).toInt64 * (pSg N s x 1).toInt64)
def pPoolR (N : Nat → Int32) (s : Nat) : Nat → Nat → Int64 → Int64
  | _, 0, v => v
  | x, k + 1, v => pPoolR N s (x + 1) k (v + (pSg N s x 3).toInt64)
section TW32
variable {Γ : Nat → Option Nat} {m n : Nat} {I : Nat → Int32} {A : Nat → Nat → Int32} {S : Nat → Int64} {h : xH} {s : Nat}
theorem t_bornOf {x : Nat} (hs : s < 4) (hx : x ≤ 13) : fX3_bornOf m (Int32.ofNat s) (Int32.ofNat x) Γ (tw m I A S h) n = some (.inl (pBorn (A 1) s x), tw m I A S h, 0, 0) := by
  have e1 := t_aliveOf (Γ := Γ) (n := n) (m := m) (I := I) (A := A) (S := S) (h := h) hs hx
  have e2 := t_of (Γ := Γ) (n := n) (m := m) (I := I) (A := A) (S := S) (h := h) hs (show 26 + x < 132 by omega)
  simp (maxDischargeDepth := 9) only [fX3_bornOf, xbind, xlet, xpure, tw_sel, tg_0, tg_4, tg_9, tg_12, tg_13, tg_14, tg_15, tg_16, tg_17, tg_18, tg_19, tg_20, tg_21, tg_24, tr_1, tr_2, tr_3, tr_5, tr_6, tr_7, tr_8, tr_10, tr_11, tr_22, tr_23, tp_0, tp_4, tp_9, tp_12, tp_13, tp_14, tp_15, tp_16, tp_17, tp_18, tp_19, tp_20, tp_21, tp_24, va_up_self, va_up_ne, va_uu, i_ofNat, i_add, i_mul, Nat.add_zero, Nat.zero_add, reduceIte, if_true, if_false, Nat.reduceEqDiff, ne_eq, not_false_eq_true, Nat.reduceEqDiff, not_true_eq_false, e1, e2, pBorn]
theorem t_reproduction_p20 {o : Nat} (hs : s < 4) (ho : A 1 (zI s 1) = Int32.ofNat o) (ho' : o ≤ 12) : ∀ (k x fu : Nat) (v : Int64), x + k = o + 1 → k < fu → fX3_reproduction_p20 fu m (Int32.ofNat s) v (Int32.ofNat x) Γ (tw m I A S h) n = some (.inl (FP.ddiv (FP.l2d (pRep (A 1) s x k v)) (4726483295884279808 : UInt64)), tw m I A S h, 0, 0) := by
  have e := t_oldest (Γ := Γ) (n := n) (m := m) (I := I) (A := A) (S := S) (h := h) hs
  rw [ho] at e
  intro k
  induction k with
  | zero =>
    intro x fu v hx hf
    obtain ⟨fu, rfl⟩ : ∃ g, fu = g + 1 := ⟨fu - 1, by omega⟩
    have c1 : Int32.ofNat o < Int32.ofNat x := by rw [i_lt (by omega) (by omega)]; omega
    have q1 := fun (k : xM UInt64) => x_ddiv (k := k) (dFin.l2dA v).num d_e8
    rw [fX3_reproduction_p20]
    simp (maxDischargeDepth := 9) only [xbind, xlet, xpure, tw_sel, tg_0, tg_4, tg_9, tg_12, tg_13, tg_14, tg_15, tg_16, tg_17, tg_18, tg_19, tg_20, tg_21, tg_24, tr_1, tr_2, tr_3, tr_5, tr_6, tr_7, tr_8, tr_10, tr_11, tr_22, tr_23, tp_0, tp_4, tp_9, tp_12, tp_13, tp_14, tp_15, tp_16, tp_17, tp_18, tp_19, tp_20, tp_21, tp_24, va_up_self, va_up_ne, va_uu, i_ofNat, i_add, i_mul, Nat.add_zero, Nat.zero_add, reduceIte, if_true, if_false, Nat.reduceEqDiff, ne_eq, not_false_eq_true, Nat.reduceEqDiff, not_true_eq_false, e, c1, pRep, q1]
  | succ k ih =>
    intro x fu v hx hf
    obtain ⟨fu, rfl⟩ : ∃ g, fu = g + 1 := ⟨fu - 1, by omega⟩
    have c1 : ¬ (Int32.ofNat o < Int32.ofNat x) := by rw [i_lt (by omega) (by omega)]; omega
    have e1 := t_bornOf (Γ := Γ) (n := n) (m := m) (I := I) (A := A) (S := S) (h := h) hs (show x ≤ 13 by omega)
    have e2 := ih (x + 1) fu (v + pBorn (A 1) s x) (by omega) (by omega)
    rw [fX3_reproduction_p20]
    simp (maxDischargeDepth := 9) only [xbind, xlet, xpure, tw_sel, tg_0, tg_4, tg_9, tg_12, tg_13, tg_14, tg_15, tg_16, tg_17, tg_18, tg_19, tg_20, tg_21, tg_24, tr_1, tr_2, tr_3, tr_5, tr_6, tr_7, tr_8, tr_10, tr_11, tr_22, tr_23, tp_0, tp_4, tp_9, tp_12, tp_13, tp_14, tp_15, tp_16, tp_17, tp_18, tp_19, tp_20, tp_21, tp_24, va_up_self, va_up_ne, va_uu, i_ofNat, i_add, i_mul, Nat.add_zero, Nat.zero_add, reduceIte, if_true, if_false, Nat.reduceEqDiff, ne_eq, not_false_eq_true, Nat.reduceEqDiff, not_true_eq_false, e, c1, e1, pRep, e2]
theorem t_reproduction1 (ok : okN (A 1)) (hs : s < nn (A 1 0)) : fX3_reproduction m (Int32.ofNat s) Γ (tw m I A S h) n = some (.inl (FP.ddiv (FP.l2d (pRep (A 1) s 0 (nn (A 1 (zI s 1)) + 1) 0)) (4726483295884279808 : UInt64)), tw m (va_up I 0 (Int32.ofNat 0)) A S h, 0, 0) := by
  have h4 := ok.2.1
  obtain ⟨a1, a2, -⟩ := ok.2.2.2.2.2.2.2.2.1 s hs
  unfold nN at a1
  have e0 := t_noSpecies1 (Γ := Γ) (n := n) (m := m) (I := va_up I 0 (Int32.ofNat 0)) (S := S) (h := h) ok (vS_of hs h4)
  have e1 := t_reproduction_p20 (Γ := Γ) (n := n) (m := m) (I := va_up I 0 (Int32.ofNat 0)) (A := A) (S := S) (h := h) (show s < 4 by omega) a1 a2 (nn (A 1 (zI s 1)) + 1) 0 xFU 0 (by omega) (by unfold xFU; omega)
  simp (maxDischargeDepth := 9) only [fX3_reproduction, xbind, xlet, xpure, tw_sel, tg_0, tg_4, tg_9, tg_12, tg_13, tg_14, tg_15, tg_16, tg_17, tg_18, tg_19, tg_20, tg_21, tg_24, tr_1, tr_2, tr_3, tr_5, tr_6, tr_7, tr_8, tr_10, tr_11, tr_22, tr_23, tp_0, tp_4, tp_9, tp_12, tp_13, tp_14, tp_15, tp_16, tp_17, tp_18, tp_19, tp_20, tp_21, tp_24, va_up_self, va_up_ne, va_uu, i_ofNat, i_add, i_mul, Nat.add_zero, Nat.zero_add, reduceIte, if_true, if_false, Nat.reduceEqDiff, ne_eq, not_false_eq_true, Nat.reduceEqDiff, not_true_eq_false, e0, e1]
theorem t_reproduction0 (ok : okN (A 1)) {p : Int32} (hp : ¬ vS (A 1) p) : fX3_reproduction m p Γ (tw m I A S h) n = some (.inl FP.dconst0, tw m (va_up I 0 (Int32.ofNat 1)) A S h, 0, 0) := by
  have e0 := t_noSpecies0 (Γ := Γ) (n := n) (m := m) (I := va_up I 0 (Int32.ofNat 0)) (S := S) (h := h) ok hp
  simp (maxDischargeDepth := 9) only [fX3_reproduction, xbind, xlet, xpure, tw_sel, tg_0, tg_4, tg_9, tg_12, tg_13, tg_14, tg_15, tg_16, tg_17, tg_18, tg_19, tg_20, tg_21, tg_24, tr_1, tr_2, tr_3, tr_5, tr_6, tr_7, tr_8, tr_10, tr_11, tr_22, tr_23, tp_0, tp_4, tp_9, tp_12, tp_13, tp_14, tp_15, tp_16, tp_17, tp_18, tp_19, tp_20, tp_21, tp_24, va_up_self, va_up_ne, va_uu, i_ofNat, i_add, i_mul, Nat.add_zero, Nat.zero_add, reduceIte, if_true, if_false, Nat.reduceEqDiff, ne_eq, not_false_eq_true, Nat.reduceEqDiff, not_true_eq_false, e0, i_10]
theorem t_generation_p23 {o : Nat} (hs : s < 4) (ho : A 1 (zI s 1) = Int32.ofNat o) (ho' : o ≤ 12) : ∀ (k x fu : Nat) (v w : Int64), x + k = o + 1 → k < fu → fX3_generation_p23 fu m (Int32.ofNat s) v w (Int32.ofNat x) Γ (tw m I A S h) n = some (.inl (pQuo (pRepA (A 1) s x k v) (pRep (A 1) s x k w)), tw m I A S h, 0, 0) := by
  have e := t_oldest (Γ := Γ) (n := n) (m := m) (I := I) (A := A) (S := S) (h := h) hs
  rw [ho] at e
  intro k
  induction k with
  | zero =>
    intro x fu v w hx hf
    obtain ⟨fu, rfl⟩ : ∃ g, fu = g + 1 := ⟨fu - 1, by omega⟩
    have c1 : Int32.ofNat o < Int32.ofNat x := by rw [i_lt (by omega) (by omega)]; omega
    rw [fX3_generation_p23]
    by_cases hw : w = 0
    · have l1 := eq_true (j_cmpE.mpr hw)
      have l2 := eq_true hw
      simp (maxDischargeDepth := 9) only [xbind, xlet, xpure, tw_sel, tg_0, tg_4, tg_9, tg_12, tg_13, tg_14, tg_15, tg_16, tg_17, tg_18, tg_19, tg_20, tg_21, tg_24, tr_1, tr_2, tr_3, tr_5, tr_6, tr_7, tr_8, tr_10, tr_11, tr_22, tr_23, tp_0, tp_4, tp_9, tp_12, tp_13, tp_14, tp_15, tp_16, tp_17, tp_18, tp_19, tp_20, tp_21, tp_24, va_up_self, va_up_ne, va_uu, i_ofNat, i_add, i_mul, Nat.add_zero, Nat.zero_add, reduceIte, if_true, if_false, Nat.reduceEqDiff, ne_eq, not_false_eq_true, Nat.reduceEqDiff, not_true_eq_false, e, c1, pRep, pRepA, pQuo, l1, l2]
    · have l1 : ¬ lg_cmp w 0 = Int32.ofNat 0 := fun q => hw (j_cmpE.mp q)
      have q1 := fun (k : xM UInt64) => x_ddiv (k := k) (dFin.l2dA v).num (dNz.l2dA (d_j0 hw))
      simp (maxDischargeDepth := 9) only [xbind, xlet, xpure, tw_sel, tg_0, tg_4, tg_9, tg_12, tg_13, tg_14, tg_15, tg_16, tg_17, tg_18, tg_19, tg_20, tg_21, tg_24, tr_1, tr_2, tr_3, tr_5, tr_6, tr_7, tr_8, tr_10, tr_11, tr_22, tr_23, tp_0, tp_4, tp_9, tp_12, tp_13, tp_14, tp_15, tp_16, tp_17, tp_18, tp_19, tp_20, tp_21, tp_24, va_up_self, va_up_ne, va_uu, i_ofNat, i_add, i_mul, Nat.add_zero, Nat.zero_add, reduceIte, if_true, if_false, Nat.reduceEqDiff, ne_eq, not_false_eq_true, Nat.reduceEqDiff, not_true_eq_false, e, c1, pRep, pRepA, pQuo, l1, hw, q1]
  | succ k ih =>
    intro x fu v w hx hf
    obtain ⟨fu, rfl⟩ : ∃ g, fu = g + 1 := ⟨fu - 1, by omega⟩
    have c1 : ¬ (Int32.ofNat o < Int32.ofNat x) := by rw [i_lt (by omega) (by omega)]; omega
    have e1 := t_bornOf (Γ := Γ) (n := n) (m := m) (I := I) (A := A) (S := S) (h := h) hs (show x ≤ 13 by omega)
    have e2 := ih (x + 1) fu (v + (Int32.ofNat x).toInt64 * pBorn (A 1) s x) (w + pBorn (A 1) s x) (by omega) (by omega)
    rw [fX3_generation_p23]
    simp (maxDischargeDepth := 9) only [xbind, xlet, xpure, tw_sel, tg_0, tg_4, tg_9, tg_12, tg_13, tg_14, tg_15, tg_16, tg_17, tg_18, tg_19, tg_20, tg_21, tg_24, tr_1, tr_2, tr_3, tr_5, tr_6, tr_7, tr_8, tr_10, tr_11, tr_22, tr_23, tp_0, tp_4, tp_9, tp_12, tp_13, tp_14, tp_15, tp_16, tp_17, tp_18, tp_19, tp_20, tp_21, tp_24, va_up_self, va_up_ne, va_uu, i_ofNat, i_add, i_mul, Nat.add_zero, Nat.zero_add, reduceIte, if_true, if_false, Nat.reduceEqDiff, ne_eq, not_false_eq_true, Nat.reduceEqDiff, not_true_eq_false, e, c1, e1, pRep, pRepA, e2]
theorem t_generation1 (ok : okN (A 1)) (hs : s < nn (A 1 0)) : fX3_generation m (Int32.ofNat s) Γ (tw m I A S h) n = some (.inl (pQuo (pRepA (A 1) s 0 (nn (A 1 (zI s 1)) + 1) 0) (pRep (A 1) s 0 (nn (A 1 (zI s 1)) + 1) 0)), tw m (va_up I 0 (Int32.ofNat 0)) A S h, 0, 0) := by
  have h4 := ok.2.1
  obtain ⟨a1, a2, -⟩ := ok.2.2.2.2.2.2.2.2.1 s hs
  unfold nN at a1
  have e0 := t_noSpecies1 (Γ := Γ) (n := n) (m := m) (I := va_up I 0 (Int32.ofNat 0)) (S := S) (h := h) ok (vS_of hs h4)
  have e1 := t_generation_p23 (Γ := Γ) (n := n) (m := m) (I := va_up I 0 (Int32.ofNat 0)) (A := A) (S := S) (h := h) (show s < 4 by omega) a1 a2 (nn (A 1 (zI s 1)) + 1) 0 xFU 0 0 (by omega) (by unfold xFU; omega)
  simp (maxDischargeDepth := 9) only [fX3_generation, xbind, xlet, xpure, tw_sel, tg_0, tg_4, tg_9, tg_12, tg_13, tg_14, tg_15, tg_16, tg_17, tg_18, tg_19, tg_20, tg_21, tg_24, tr_1, tr_2, tr_3, tr_5, tr_6, tr_7, tr_8, tr_10, tr_11, tr_22, tr_23, tp_0, tp_4, tp_9, tp_12, tp_13, tp_14, tp_15, tp_16, tp_17, tp_18, tp_19, tp_20, tp_21, tp_24, va_up_self, va_up_ne, va_uu, i_ofNat, i_add, i_mul, Nat.add_zero, Nat.zero_add, reduceIte, if_true, if_false, Nat.reduceEqDiff, ne_eq, not_false_eq_true, Nat.reduceEqDiff, not_true_eq_false, e0, e1]
theorem t_generation0 (ok : okN (A 1)) {p : Int32} (hp : ¬ vS (A 1) p) : fX3_generation m p Γ (tw m I A S h) n = some (.inl FP.dconst0, tw m (va_up I 0 (Int32.ofNat 1)) A S h, 0, 0) := by
  have e0 := t_noSpecies0 (Γ := Γ) (n := n) (m := m) (I := va_up I 0 (Int32.ofNat 0)) (S := S) (h := h) ok hp
  simp (maxDischargeDepth := 9) only [fX3_generation, xbind, xlet, xpure, tw_sel, tg_0, tg_4, tg_9, tg_12, tg_13, tg_14, tg_15, tg_16, tg_17, tg_18, tg_19, tg_20, tg_21, tg_24, tr_1, tr_2, tr_3, tr_5, tr_6, tr_7, tr_8, tr_10, tr_11, tr_22, tr_23, tp_0, tp_4, tp_9, tp_12, tp_13, tp_14, tp_15, tp_16, tp_17, tp_18, tp_19, tp_20, tp_21, tp_24, va_up_self, va_up_ne, va_uu, i_ofNat, i_add, i_mul, Nat.add_zero, Nat.zero_add, reduceIte, if_true, if_false, Nat.reduceEqDiff, ne_eq, not_false_eq_true, Nat.reduceEqDiff, not_true_eq_false, e0, i_10]
theorem t_pooled_p23 {g : Nat} (hs : s < 4) (hg : A 1 (zI s 12) = Int32.ofNat g) (hg' : g ≤ 20) : ∀ (k x fu : Nat) (v w : Int64), x + k = g → k < fu → fX3_pooled_p23 fu m (Int32.ofNat s) v w (Int32.ofNat x) Γ (tw m I A S h) n = some (.inl (pQuo (pPoolM (A 1) s x k v) (pPoolR (A 1) s x k w)), tw m I A S h, 0, 0) := by
  have e := t_of (Γ := Γ) (n := n) (m := m) (I := I) (A := A) (S := S) (h := h) hs (show 12 < 132 by omega)
  rw [hg] at e
  intro k
  induction k with
  | zero =>
    intro x fu v w hx hf
    obtain ⟨fu, rfl⟩ : ∃ g, fu = g + 1 := ⟨fu - 1, by omega⟩
    have c1 : Int32.ofNat g ≤ Int32.ofNat x := by rw [i_le (by omega) (by omega)]; omega
    rw [fX3_pooled_p23]
    by_cases hw : w = 0
    · have l1 := eq_true (j_cmpE.mpr hw)
      have l2 := eq_true hw
      simp (maxDischargeDepth := 9) only [xbind, xlet, xpure, tw_sel, tg_0, tg_4, tg_9, tg_12, tg_13, tg_14, tg_15, tg_16, tg_17, tg_18, tg_19, tg_20, tg_21, tg_24, tr_1, tr_2, tr_3, tr_5, tr_6, tr_7, tr_8, tr_10, tr_11, tr_22, tr_23, tp_0, tp_4, tp_9, tp_12, tp_13, tp_14, tp_15, tp_16, tp_17, tp_18, tp_19, tp_20, tp_21, tp_24, va_up_self, va_up_ne, va_uu, i_ofNat, i_add, i_mul, Nat.add_zero, Nat.zero_add, reduceIte, if_true, if_false, Nat.reduceEqDiff, ne_eq, not_false_eq_true, Nat.reduceEqDiff, not_true_eq_false, e, c1, pPoolM, pPoolR, pQuo, l1, l2]
    · have l1 : ¬ lg_cmp w 0 = Int32.ofNat 0 := fun q => hw (j_cmpE.mp q)
      have q1 := fun (k : xM UInt64) => x_ddiv (k := k) (dFin.l2dA v).num (dNz.l2dA (d_j0 hw))
      simp (maxDischargeDepth := 9) only [xbind, xlet, xpure, tw_sel, tg_0, tg_4, tg_9, tg_12, tg_13, tg_14, tg_15, tg_16, tg_17, tg_18, tg_19, tg_20, tg_21, tg_24, tr_1, tr_2, tr_3, tr_5, tr_6, tr_7, tr_8, tr_10, tr_11, tr_22, tr_23, tp_0, tp_4, tp_9, tp_12, tp_13, tp_14, tp_15, tp_16, tp_17, tp_18, tp_19, tp_20, tp_21, tp_24, va_up_self, va_up_ne, va_uu, i_ofNat, i_add, i_mul, Nat.add_zero, Nat.zero_add, reduceIte, if_true, if_false, Nat.reduceEqDiff, ne_eq, not_false_eq_true, Nat.reduceEqDiff, not_true_eq_false, e, c1, pPoolM, pPoolR, pQuo, l1, hw, q1]
  | succ k ih =>
    intro x fu v w hx hf
    obtain ⟨fu, rfl⟩ : ∃ g, fu = g + 1 := ⟨fu - 1, by omega⟩
    have c1 : ¬ (Int32.ofNat g ≤ Int32.ofNat x) := by rw [i_le (by omega) (by omega)]; omega
    have s1 := t_sightingOf (Γ := Γ) (n := n) (m := m) (I := I) (A := A) (S := S) (h := h) hs (show x < 20 by omega) (show 1 < 4 by omega)
    have s2 := t_sightingOf (Γ := Γ) (n := n) (m := m) (I := I) (A := A) (S := S) (h := h) hs (show x < 20 by omega) (show 2 < 4 by omega)
    have s3 := t_sightingOf (Γ := Γ) (n := n) (m := m) (I := I) (A := A) (S := S) (h := h) hs (show x < 20 by omega) (show 3 < 4 by omega)
    have e2 := ih (x + 1) fu (v + (pSg (A 1) s x 2).toInt64 * (pSg (A 1) s x 1).toInt64) (w + (pSg (A 1) s x 3).toInt64) (by omega) (by omega)
    rw [fX3_pooled_p23]
    simp (maxDischargeDepth := 9) only [xbind, xlet, xpure, tw_sel, tg_0, tg_4, tg_9, tg_12, tg_13, tg_14, tg_15, tg_16, tg_17, tg_18, tg_19, tg_20, tg_21, tg_24, tr_1, tr_2, tr_3, tr_5, tr_6, tr_7, tr_8, tr_10, tr_11, tr_22, tr_23, tp_0, tp_4, tp_9, tp_12, tp_13, tp_14, tp_15, tp_16, tp_17, tp_18, tp_19, tp_20, tp_21, tp_24, va_up_self, va_up_ne, va_uu, i_ofNat, i_add, i_mul, Nat.add_zero, Nat.zero_add, reduceIte, if_true, if_false, Nat.reduceEqDiff, ne_eq, not_false_eq_true, Nat.reduceEqDiff, not_true_eq_false, e, c1, s1, s2, s3, pPoolM, pPoolR, e2]
theorem t_pooled1 (ok : okN (A 1)) {g : Nat} (hs : s < nn (A 1 0)) (hg : A 1 (zI s 12) = Int32.ofNat g) (hg' : g ≤ 20) : fX3_pooled m (Int32.ofNat s) Γ (tw m I A S h) n = some (.inl (pQuo (pPoolM (A 1) s 0 g 0) (pPoolR (A 1) s 0 g 0)), tw m (va_up I 0 (Int32.ofNat 0)) A S h, 0, 0) := by
  have h4 := ok.2.1
  have e0 := t_noSpecies1 (Γ := Γ) (n := n) (m := m) (I := va_up I 0 (Int32.ofNat 0)) (S := S) (h := h) ok (vS_of hs h4)
  have e1 := t_pooled_p23 (Γ := Γ) (n := n) (m := m) (I := va_up I 0 (Int32.ofNat 0)) (A := A) (S := S) (h := h) (show s < 4 by omega) hg hg' g 0 xFU 0 0 (by omega) (by unfold xFU; omega)
  simp (maxDischargeDepth := 9) only [fX3_pooled, xbind, xlet, xpure, tw_sel, tg_0, tg_4, tg_9, tg_12, tg_13, tg_14, tg_15, tg_16, tg_17, tg_18, tg_19, tg_20, tg_21, tg_24, tr_1, tr_2, tr_3, tr_5, tr_6, tr_7, tr_8, tr_10, tr_11, tr_22, tr_23, tp_0, tp_4, tp_9, tp_12, tp_13, tp_14, tp_15, tp_16, tp_17, tp_18, tp_19, tp_20, tp_21, tp_24, va_up_self, va_up_ne, va_uu, i_ofNat, i_add, i_mul, Nat.add_zero, Nat.zero_add, reduceIte, if_true, if_false, Nat.reduceEqDiff, ne_eq, not_false_eq_true, Nat.reduceEqDiff, not_true_eq_false, e0, e1]
theorem t_pooled0 (ok : okN (A 1)) {p : Int32} (hp : ¬ vS (A 1) p) : fX3_pooled m p Γ (tw m I A S h) n = some (.inl FP.dconst0, tw m (va_up I 0 (Int32.ofNat 1)) A S h, 0, 0) := by
  have e0 := t_noSpecies0 (Γ := Γ) (n := n) (m := m) (I := va_up I 0 (Int32.ofNat 0)) (S := S) (h := h) ok hp
  simp (maxDischargeDepth := 9) only [fX3_pooled, xbind, xlet, xpure, tw_sel, tg_0, tg_4, tg_9, tg_12, tg_13, tg_14, tg_15, tg_16, tg_17, tg_18, tg_19, tg_20, tg_21, tg_24, tr_1, tr_2, tr_3, tr_5, tr_6, tr_7, tr_8, tr_10, tr_11, tr_22, tr_23, tp_0, tp_4, tp_9, tp_12, tp_13, tp_14, tp_15, tp_16, tp_17, tp_18, tp_19, tp_20, tp_21, tp_24, va_up_self, va_up_ne, va_uu, i_ofNat, i_add, i_mul, Nat.add_zero, Nat.zero_add, reduceIte, if_true, if_false, Nat.reduceEqDiff, ne_eq, not_false_eq_true, Nat.reduceEqDiff, not_true_eq_false, e0, i_10]
end TW32
