/-! part 415: the twin: all plans of a year, ages -/
theorem i_addneg {a b : Nat} (h : b ≤ a) : Int32.ofNat a + -Int32.ofNat b = Int32.ofNat (a - b) := by rw [← Int32.sub_eq_add_neg, i_sub h]
def pAll : Nat → (Nat → Int32) → Int32 → (Nat → Int32) × Int32
  | 0, N, c => (N, c)
  | k + 1, N, c => if N 4 = N 1 then pAll k (pRem (pCarry N) 0 (k + 1)) (c + Int32.ofNat 1) else (N, c)
theorem okN.carry {N : Nat → Int32} (ok : okN N) (hc : 0 < nn (N 3)) : okN (pCarry N) := by
  have hp := ok.2.2.2.2.2.2.2.2.2 0 hc
  have h0 := ok.2.1
  have hS := ok.2.2.2.2.2.2.2.2.1
  unfold okP at hp
  simp only [Nat.mul_zero, Nat.add_zero, Nat.reduceAdd] at hp
  obtain ⟨p1, p2, p3, p4⟩ := hp
  have q2 := (hS _ p2).2.1
  refine ok.congr (fun j hj => pCarry_ne (by omega) (fun k h1 h2 => by unfold zI; omega)) (fun s hs => ⟨pCarry_ne (by omega) (fun k h1 h2 => ?_), pCarry_ne (by omega) (fun k h1 h2 => ?_)⟩)
  · unfold zI; omega
  · unfold zI; omega
theorem okN.rem {N : Nat → Int32} {k cnt : Nat} (ok : okN N) (hc : nn (N 3) = cnt) (hk : k < cnt) : okN (pRem N k cnt) := by
  obtain ⟨a1, a2, a3, a4, a5, a6, a7, a8, a9, a10⟩ := ok
  have e0 : ∀ j, j < 3 → pRem N k cnt j = N j := fun j hj => by unfold pRem; rw [if_neg (by omega), if_neg (by omega)]
  have e3 : pRem N k cnt 3 = Int32.ofNat (cnt - 1) := by unfold pRem; rw [if_pos rfl]
  have eb : ∀ j, 64 ≤ j → pRem N k cnt j = N j := fun j hj => by unfold pRem; rw [if_neg (by omega), if_neg (by omega)]
  have hn : nn (pRem N k cnt 3) = cnt - 1 := by rw [e3, nn_of (by omega)]
  have ez : ∀ s a, pRem N k cnt (zI s a) = N (zI s a) := fun s a => eb _ (by unfold zI; omega)
  refine ⟨?_, ?_, ?_, ?_, ?_, ?_, ?_, ?_, fun s hs => ?_, fun j hj => ?_⟩
  · rw [e0 0 (by omega)]; exact a1
  · rw [e0 0 (by omega)]; exact a2
  · rw [e0 1 (by omega)]; exact a3
  · rw [e0 1 (by omega)]; exact a4
  · rw [e0 2 (by omega)]; exact a5
  · rw [e0 2 (by omega), e0 1 (by omega)]; exact a6
  · rw [e3]; exact nN_of _ (by omega)
  · rw [hn]; omega
  · rw [e0 0 (by omega)] at hs
    unfold okS
    rw [ez, ez]
    exact a9 s hs
  · rw [hn] at hj
    by_cases hjk : j < k
    · have e1 : ∀ b, 2 ≤ b → b ≤ 3 → pRem N k cnt (4 + 5 * j + b) = N (4 + 5 * j + b) := fun b h1 h2 => by unfold pRem; rw [if_neg (by omega), if_neg (by omega)]
      unfold okP
      rw [e1 2 (by omega) (by omega), e1 3 (by omega) (by omega), e0 0 (by omega), ez]
      exact a10 j (by omega)
    · have e1 : ∀ b, 2 ≤ b → b ≤ 3 → pRem N k cnt (4 + 5 * j + b) = N (4 + 5 * (j + 1) + b) := fun b h1 h2 => by unfold pRem; rw [if_neg (by omega), if_pos (by omega)]; congr 1; omega
      unfold okP
      rw [e1 2 (by omega) (by omega), e1 3 (by omega) (by omega), e0 0 (by omega), ez]
      exact a10 (j + 1) (by omega)
theorem okN.all : ∀ (k : Nat) (N : Nat → Int32) (c : Int32), okN N → nn (N 3) = k → okN (pAll k N c).1 := by
  intro k
  induction k with
  | zero => intro N c ok h; exact ok
  | succ k ih =>
    intro N c ok h
    unfold pAll
    split
    · have o1 := ok.carry (by omega)
      have h3 : nn (pCarry N 3) = k + 1 := by
        have hp := ok.2.2.2.2.2.2.2.2.2 0 (by omega)
        unfold okP at hp
        simp only [Nat.mul_zero, Nat.add_zero, Nat.reduceAdd] at hp
        have := (ok.2.2.2.2.2.2.2.2.1 _ hp.2.1).2.1
        rw [pCarry_ne (by omega) (fun k h1 h2 => by unfold zI; omega)]
        exact h
      have o2 := o1.rem h3 (show 0 < k + 1 by omega)
      exact ih _ _ o2 (by unfold pRem; rw [if_pos rfl, nn_of (by have := ok.2.2.2.2.2.2.2.1; omega)]; omega)
    · exact ok
section TW5
variable {Γ : Nat → Option Nat} {m n : Nat} {I : Nat → Int32} {S : Nat → Int64} {h : xH}
theorem t_carriesOutAll_p2 : ∀ (k fu : Nat) (A : Nat → Nat → Int32) (c : Int32), okN (A 1) → A 1 3 = Int32.ofNat k → k ≤ 12 → k < fu →
    fX3_carriesOutAll_p2 fu m c Γ (tw m I A S h) n = some (.inl (pAll k (A 1) c).2, tw m I (va_up A 1 (pAll k (A 1) c).1) S h, 0, 0) := by
  intro k
  induction k with
  | zero =>
    intro fu A c ok h3 hk hf
    obtain ⟨fu, rfl⟩ : ∃ g, fu = g + 1 := ⟨fu - 1, by omega⟩
    have c1 : Int32.ofNat 0 ≤ Int32.ofNat 0 := by decide
    rw [fX3_carriesOutAll_p2]
    simp (maxDischargeDepth := 9) only [xbind, xlet, xpure, tw_sel, tg_0, tg_4, tg_9, tg_12, tg_13, tg_14, tg_15, tg_16, tg_17, tg_18, tg_19, tg_20, tg_21, tg_24, tr_1, tr_2, tr_3, tr_5, tr_6, tr_7, tr_8, tr_10, tr_11, tr_22, tr_23, tp_0, tp_4, tp_9, tp_12, tp_13, tp_14, tp_15, tp_16, tp_17, tp_18, tp_19, tp_20, tp_21, tp_24, va_up_self, va_up_ne, va_uu, i_ofNat, i_add, i_mul, Nat.add_zero, Nat.zero_add, reduceIte, if_true, if_false, Nat.reduceEqDiff, ne_eq, not_false_eq_true, Nat.reduceEqDiff, not_true_eq_false, tl_1 (show 3 < 592 by omega), h3, c1, pAll, va_id]
  | succ k ih =>
    intro fu A c ok h3 hk hf
    obtain ⟨fu, rfl⟩ : ∃ g, fu = g + 1 := ⟨fu - 1, by omega⟩
    have c1 : ¬ Int32.ofNat (k + 1) ≤ Int32.ofNat 0 := by rw [i_le (by omega) (by omega)]; omega
    have hn : nn (A 1 3) = k + 1 := by rw [h3, nn_of (by omega)]
    rw [fX3_carriesOutAll_p2]
    by_cases c2 : A 1 4 = A 1 1
    · have o1 := ok.carry (by omega)
      have hp := ok.2.2.2.2.2.2.2.2.2 0 (by omega)
      unfold okP at hp
      simp only [Nat.mul_zero, Nat.add_zero, Nat.reduceAdd] at hp
      have hq := (ok.2.2.2.2.2.2.2.2.1 _ hp.2.1).2.1
      have h3' : pCarry (A 1) 3 = Int32.ofNat (k + 1) := by
        rw [pCarry_ne (by omega) (fun k h1 h2 => by unfold zI; omega)]
        exact h3
      have o2 := o1.rem (k := 0) (cnt := k + 1) (by rw [h3', nn_of (by omega)]) (by omega)
      have e1 := t_carriesOut (Γ := Γ) (n := n) (m := m) (I := I) (A := A) (S := S) (h := h) ok (by omega)
      have e2 := t_removesPlan (Γ := Γ) (n := n) (m := m) (I := I) (A := va_up A 1 (pCarry (A 1))) (S := S) (h := h) (k := 0) (cnt := k + 1) (by rw [va_up_self]; exact h3') (by omega) hk
      have e3 := ih fu (va_up A 1 (pRem (pCarry (A 1)) 0 (k + 1))) (c + Int32.ofNat 1) (by rw [va_up_self]; exact o2) (by rw [va_up_self]; unfold pRem; rw [if_pos rfl]; rfl) (by omega) (by omega)
      simp (maxDischargeDepth := 9) only [xbind, xlet, xpure, tw_sel, tg_0, tg_4, tg_9, tg_12, tg_13, tg_14, tg_15, tg_16, tg_17, tg_18, tg_19, tg_20, tg_21, tg_24, tr_1, tr_2, tr_3, tr_5, tr_6, tr_7, tr_8, tr_10, tr_11, tr_22, tr_23, tp_0, tp_4, tp_9, tp_12, tp_13, tp_14, tp_15, tp_16, tp_17, tp_18, tp_19, tp_20, tp_21, tp_24, va_up_self, va_up_ne, va_uu, i_ofNat, i_add, i_mul, Nat.add_zero, Nat.zero_add, reduceIte, if_true, if_false, Nat.reduceEqDiff, ne_eq, not_false_eq_true, Nat.reduceEqDiff, not_true_eq_false] at e2 e3
      simp (maxDischargeDepth := 9) only [xbind, xlet, xpure, tw_sel, tg_0, tg_4, tg_9, tg_12, tg_13, tg_14, tg_15, tg_16, tg_17, tg_18, tg_19, tg_20, tg_21, tg_24, tr_1, tr_2, tr_3, tr_5, tr_6, tr_7, tr_8, tr_10, tr_11, tr_22, tr_23, tp_0, tp_4, tp_9, tp_12, tp_13, tp_14, tp_15, tp_16, tp_17, tp_18, tp_19, tp_20, tp_21, tp_24, va_up_self, va_up_ne, va_uu, i_ofNat, i_add, i_mul, Nat.add_zero, Nat.zero_add, reduceIte, if_true, if_false, Nat.reduceEqDiff, ne_eq, not_false_eq_true, Nat.reduceEqDiff, not_true_eq_false, tl_1 (show 3 < 592 by omega), tl_1 (show 4 < 592 by omega), tl_1 (show 1 < 592 by omega), h3, c1, c2, e1, e2, e3, pAll]
    · simp (maxDischargeDepth := 9) only [xbind, xlet, xpure, tw_sel, tg_0, tg_4, tg_9, tg_12, tg_13, tg_14, tg_15, tg_16, tg_17, tg_18, tg_19, tg_20, tg_21, tg_24, tr_1, tr_2, tr_3, tr_5, tr_6, tr_7, tr_8, tr_10, tr_11, tr_22, tr_23, tp_0, tp_4, tp_9, tp_12, tp_13, tp_14, tp_15, tp_16, tp_17, tp_18, tp_19, tp_20, tp_21, tp_24, va_up_self, va_up_ne, va_uu, i_ofNat, i_add, i_mul, Nat.add_zero, Nat.zero_add, reduceIte, if_true, if_false, Nat.reduceEqDiff, ne_eq, not_false_eq_true, Nat.reduceEqDiff, not_true_eq_false, tl_1 (show 3 < 592 by omega), tl_1 (show 4 < 592 by omega), tl_1 (show 1 < 592 by omega), h3, c1, c2, pAll, va_id]
theorem t_carriesOutAll {A : Nat → Nat → Int32} (ok : okN (A 1)) : fX3_carriesOutAll m Γ (tw m I A S h) n = some (.inl (pAll (nn (A 1 3)) (A 1) (Int32.ofNat 0)).2, tw m I (va_up A 1 (pAll (nn (A 1 3)) (A 1) (Int32.ofNat 0)).1) S h, 0, 0) := by
  have e := t_carriesOutAll_p2 (Γ := Γ) (n := n) (m := m) (I := I) (S := S) (h := h) (nn (A 1 3)) xFU A (Int32.ofNat 0) ok ok.2.2.2.2.2.2.1 ok.2.2.2.2.2.2.2.1 (by have := ok.2.2.2.2.2.2.2.1; unfold xFU; omega)
  simp (maxDischargeDepth := 9) only [fX3_carriesOutAll, xbind, xlet, xpure, tw_sel, tg_0, tg_4, tg_9, tg_12, tg_13, tg_14, tg_15, tg_16, tg_17, tg_18, tg_19, tg_20, tg_21, tg_24, tr_1, tr_2, tr_3, tr_5, tr_6, tr_7, tr_8, tr_10, tr_11, tr_22, tr_23, tp_0, tp_4, tp_9, tp_12, tp_13, tp_14, tp_15, tp_16, tp_17, tp_18, tp_19, tp_20, tp_21, tp_24, va_up_self, va_up_ne, va_uu, i_ofNat, i_add, i_mul, Nat.add_zero, Nat.zero_add, reduceIte, if_true, if_false, Nat.reduceEqDiff, ne_eq, not_false_eq_true, Nat.reduceEqDiff, not_true_eq_false, e]
end TW5
/-! a year's ages -/
def jsum (f : Nat → Int64) : Nat → Nat → Int64
  | _, 0 => 0
  | x, k + 1 => f x + jsum f (x + 1) k
/-- ages above x are filled out of the ages below them -/
def pSh (N : Nat → Int32) (s o x : Nat) : Nat → Int32 := fun j => if zI s (39 + x) < j ∧ j ≤ zI s (39 + o) then pGone (N (j - 1)) (N (j - 27)) else N j
def pAgA (N : Nat → Int32) (s o : Nat) : Nat → Int32 := va_up (pSh N s o 0) (zI s 39) (Int32.ofNat 0)
def pAgB (N : Nat → Int32) (s o : Nat) : Nat → Int32 := va_up (pAgA N s o) (zI s 9) (pAgA N s o (zI s 9) + (pTot N s o - pTot (pAgA N s o) s o))
def pAgC (N : Nat → Int32) (s o : Nat) : Nat → Int32 := pLose (pAgB N s o) s o (pTot N s o)
def pAgD (N : Nat → Int32) (s : Nat) (b : Int32) : Nat → Int32 := va_up (va_up N (zI s 39) b) (zI s 8) (va_up N (zI s 39) b (zI s 8) + b)
def pBorn0 (N : Nat → Int32) (s : Nat) (born : Int64) (left : Int32) : Int64 := if N (zI s 3) ≤ Int32.ofNat 0 then jmin 1000000 (born / 1000) else jmin (jmin 1000000 (born / 1000)) (imax (Int32.ofNat 0) (N (zI s 3) - left)).toInt64
def pBears (N : Nat → Int32) (s : Nat) (x : Nat) : Int64 := (N (zI s (39 + x))).toInt64 * (N (zI s (26 + x))).toInt64
def pAges (N : Nat → Int32) (s o : Nat) : Nat → Int32 := pAgD (pAgC N s o) s (pBorn0 (pAgC N s o) s (jsum (pBears (pAgC N s o) s) 1 o) (pTot (pAgA N s o) s o)).toInt32
section TW6
variable {Γ : Nat → Option Nat} {m n : Nat} {I : Nat → Int32} {S : Nat → Int64} {h : xH}
theorem t_ages_p199 {A : Nat → Nat → Int32} {s : Nat} (hs : s < 4) (b : Int64) : fX3_ages_p199 m (Int32.ofNat s) b Γ (tw m I A S h) n = some (.inl (), tw m I (va_up A 1 (pAgD (A 1) s b.toInt32)) S h, 0, 0) := by
  have h1 := zI_lt hs (show 39 < 132 by omega)
  have h2 := zI_lt hs (show 8 < 132 by omega)
  simp (maxDischargeDepth := 9) only [fX3_ages_p199, xbind, xlet, xpure, tw_sel, tg_0, tg_4, tg_9, tg_12, tg_13, tg_14, tg_15, tg_16, tg_17, tg_18, tg_19, tg_20, tg_21, tg_24, tr_1, tr_2, tr_3, tr_5, tr_6, tr_7, tr_8, tr_10, tr_11, tr_22, tr_23, tp_0, tp_4, tp_9, tp_12, tp_13, tp_14, tp_15, tp_16, tp_17, tp_18, tp_19, tp_20, tp_21, tp_24, va_up_self, va_up_ne, va_uu, i_ofNat, i_add, i_mul, Nat.add_zero, Nat.zero_add, reduceIte, if_true, if_false, Nat.reduceEqDiff, ne_eq, not_false_eq_true, Nat.reduceEqDiff, not_true_eq_false, t_at2, tl_1 h1, ts_1 h1, tl_1 h2, ts_1 h2, pAgD]
theorem t_ages_p118 {A : Nat → Nat → Int32} {s o : Nat} (hs : s < 4) (ho' : o ≤ 12) (left : Int32) : ∀ (k x fu : Nat) (acc : Int64), x + k = o + 1 → k < fu →
    fX3_ages_p118 fu m (Int32.ofNat s) (Int32.ofNat o) left acc (Int32.ofNat x) Γ (tw m I A S h) n = some (.inl (), tw m I (va_up A 1 (pAgD (A 1) s (pBorn0 (A 1) s (acc + jsum (pBears (A 1) s) x k) left).toInt32)) S h, 0, 0) := by
  intro k
  induction k with
  | zero =>
    intro x fu acc hx hf
    obtain ⟨fu, rfl⟩ : ∃ g, fu = g + 1 := ⟨fu - 1, by omega⟩
    have c1 : Int32.ofNat o < Int32.ofNat x := by rw [i_lt (by omega) (by omega)]; omega
    have e1 := t_of (Γ := Γ) (n := n) (m := m) (I := I) (A := A) (S := S) (h := h) hs (show 3 < 132 by omega)
    rw [fX3_ages_p118]
    simp only [jsum, Int64.add_zero]
    unfold pBorn0
    by_cases c2 : A 1 (zI s 3) ≤ Int32.ofNat 0
    · simp (maxDischargeDepth := 9) only [xbind, xlet, xpure, tw_sel, tg_0, tg_4, tg_9, tg_12, tg_13, tg_14, tg_15, tg_16, tg_17, tg_18, tg_19, tg_20, tg_21, tg_24, tr_1, tr_2, tr_3, tr_5, tr_6, tr_7, tr_8, tr_10, tr_11, tr_22, tr_23, tp_0, tp_4, tp_9, tp_12, tp_13, tp_14, tp_15, tp_16, tp_17, tp_18, tp_19, tp_20, tp_21, tp_24, va_up_self, va_up_ne, va_uu, i_ofNat, i_add, i_mul, Nat.add_zero, Nat.zero_add, reduceIte, if_true, if_false, Nat.reduceEqDiff, ne_eq, not_false_eq_true, Nat.reduceEqDiff, not_true_eq_false, c1, c2, e1, xdvJ, j_dv, i_jm, t_ages_p199 hs]
    · simp (maxDischargeDepth := 9) only [xbind, xlet, xpure, tw_sel, tg_0, tg_4, tg_9, tg_12, tg_13, tg_14, tg_15, tg_16, tg_17, tg_18, tg_19, tg_20, tg_21, tg_24, tr_1, tr_2, tr_3, tr_5, tr_6, tr_7, tr_8, tr_10, tr_11, tr_22, tr_23, tp_0, tp_4, tp_9, tp_12, tp_13, tp_14, tp_15, tp_16, tp_17, tp_18, tp_19, tp_20, tp_21, tp_24, va_up_self, va_up_ne, va_uu, i_ofNat, i_add, i_mul, Nat.add_zero, Nat.zero_add, reduceIte, if_true, if_false, Nat.reduceEqDiff, ne_eq, not_false_eq_true, Nat.reduceEqDiff, not_true_eq_false, c1, c2, e1, xdvJ, j_dv, i_jm, i_ix, t_ages_p199 hs]
  | succ k ih =>
    intro x fu acc hx hf
    obtain ⟨fu, rfl⟩ : ∃ g, fu = g + 1 := ⟨fu - 1, by omega⟩
    have c1 : ¬ Int32.ofNat o < Int32.ofNat x := by rw [i_lt (by omega) (by omega)]; omega
    have e1 := t_cohortOf (Γ := Γ) (n := n) (m := m) (I := I) (A := A) (S := S) (h := h) hs (show x < 93 by omega)
    have e2 := t_of (Γ := Γ) (n := n) (m := m) (I := I) (A := A) (S := S) (h := h) hs (show 26 + x < 132 by omega)
    have e3 := ih (x + 1) fu (acc + pBears (A 1) s x) (by omega) (by omega)
    rw [fX3_ages_p118]
    simp only [pBears] at e3
    simp (maxDischargeDepth := 9) only [xbind, xlet, xpure, tw_sel, tg_0, tg_4, tg_9, tg_12, tg_13, tg_14, tg_15, tg_16, tg_17, tg_18, tg_19, tg_20, tg_21, tg_24, tr_1, tr_2, tr_3, tr_5, tr_6, tr_7, tr_8, tr_10, tr_11, tr_22, tr_23, tp_0, tp_4, tp_9, tp_12, tp_13, tp_14, tp_15, tp_16, tp_17, tp_18, tp_19, tp_20, tp_21, tp_24, va_up_self, va_up_ne, va_uu, i_ofNat, i_add, i_mul, Nat.add_zero, Nat.zero_add, reduceIte, if_true, if_false, Nat.reduceEqDiff, ne_eq, not_false_eq_true, Nat.reduceEqDiff, not_true_eq_false, c1, e1, e2, e3, jsum, Int64.add_assoc, pBears]
theorem pSh_step {N : Nat → Int32} {s o x : Nat} (hx : 0 < x) (hxo : x ≤ o) : va_up (pSh N s o x) (zI s (39 + x)) (pGone (pSh N s o x (zI s (39 + (x - 1)))) (pSh N s o x (zI s (13 + x - 1)))) = pSh N s o (x - 1) := by
  funext j
  have e1 : pSh N s o x (zI s (39 + (x - 1))) = N (zI s (39 + x) - 1) := by
    unfold pSh
    rw [if_neg (by unfold zI; omega)]
    congr 1
    unfold zI; omega
  have e2 : pSh N s o x (zI s (13 + x - 1)) = N (zI s (39 + x) - 27) := by
    unfold pSh
    rw [if_neg (by unfold zI; omega)]
    congr 1
    unfold zI; omega
  rw [va_ap, e1, e2]
  by_cases hj : j = zI s (39 + x)
  · subst hj
    rw [if_pos rfl]
    unfold pSh
    rw [if_pos (by unfold zI; omega)]
  · rw [if_neg hj]
    unfold pSh
    by_cases hc : zI s (39 + x) < j ∧ j ≤ zI s (39 + o)
    · rw [if_pos hc, if_pos (by unfold zI at *; omega)]
    · rw [if_neg hc, if_neg (by unfold zI at *; omega)]
theorem t_ages_p15 {s o : Nat} (hs : s < 4) (ho' : o ≤ 12) (N : Nat → Int32) (A : Nat → Nat → Int32) (b : Int32) : ∀ (x fu : Nat), x ≤ o → x < fu →
    ∃ fu2, 0 < fu2 ∧ fX3_ages_p15 fu m (Int32.ofNat s) (Int32.ofNat o) b (Int32.ofNat x) Γ (tw m I (va_up A 1 (pSh N s o x)) S h) n = fX3_ages_p15 fu2 m (Int32.ofNat s) (Int32.ofNat o) b (Int32.ofNat 0) Γ (tw m I (va_up A 1 (pSh N s o 0)) S h) n := by
  intro x
  induction x with
  | zero => intro fu hx hf; exact ⟨fu, hf, rfl⟩
  | succ x ih =>
    intro fu hx hf
    obtain ⟨fu, rfl⟩ : ∃ g, fu = g + 1 := ⟨fu - 1, by omega⟩
    obtain ⟨fu2, h2, e⟩ := ih fu (by omega) (by omega)
    refine ⟨fu2, h2, ?_⟩
    have c1 : ¬ Int32.ofNat (x + 1) ≤ Int32.ofNat 0 := by rw [i_le (by omega) (by omega)]; omega
    have h1 := zI_lt hs (show 39 + (x + 1) < 132 by omega)
    have e1 := t_cohortOf (Γ := Γ) (n := n) (m := m) (I := I) (A := va_up A 1 (pSh N s o (x + 1))) (S := S) (h := h) hs (show x < 93 by omega)
    have e2 := t_of (Γ := Γ) (n := n) (m := m) (I := I) (A := va_up A 1 (pSh N s o (x + 1))) (S := S) (h := h) hs (show 13 + (x + 1) - 1 < 132 by omega)
    have hst := pSh_step (N := N) (s := s) (o := o) (x := x + 1) (by omega) hx
    have m1 : Int32.ofNat (x + 1) - Int32.ofNat 1 = Int32.ofNat x := by rw [i_sub (by omega)]; rfl
    have m2 : Int32.ofNat (13 + (x + 1)) - Int32.ofNat 1 = Int32.ofNat (13 + (x + 1) - 1) := i_sub (by omega)
    have m3 : Int32.ofNat (x + 1) + -Int32.ofNat 1 = Int32.ofNat x := by rw [i_addneg (by omega)]; rfl
    simp only [Nat.add_sub_cancel, pGone] at hst
    rw [fX3_ages_p15]
    simp (maxDischargeDepth := 9) only [xbind, xlet, xpure, tw_sel, tg_0, tg_4, tg_9, tg_12, tg_13, tg_14, tg_15, tg_16, tg_17, tg_18, tg_19, tg_20, tg_21, tg_24, tr_1, tr_2, tr_3, tr_5, tr_6, tr_7, tr_8, tr_10, tr_11, tr_22, tr_23, tp_0, tp_4, tp_9, tp_12, tp_13, tp_14, tp_15, tp_16, tp_17, tp_18, tp_19, tp_20, tp_21, tp_24, va_up_self, va_up_ne, va_uu, i_ofNat, i_add, i_mul, Nat.add_zero, Nat.zero_add, reduceIte, if_true, if_false, Nat.reduceEqDiff, ne_eq, not_false_eq_true, Nat.reduceEqDiff, not_true_eq_false, c1, t_at2, m1, m2, m3, e1, e2, xdvJ, j_dv, ts_1 h1] at e ⊢
    rw [hst, e]
    cases fX3_ages_p15 fu2 m (Int32.ofNat s) (Int32.ofNat o) b (Int32.ofNat 0) Γ (tw m I (va_up A 1 (pSh N s o 0)) S h) n <;> rfl
theorem pSh_o {N : Nat → Int32} {s o : Nat} : pSh N s o o = N := by
  funext j
  unfold pSh
  rw [if_neg (by omega)]
theorem t_ages {A : Nat → Nat → Int32} {s o : Nat} (hs : s < 4) (ho : A 1 (zI s 1) = Int32.ofNat o) (ho' : o ≤ 12) : fX3_ages m (Int32.ofNat s) Γ (tw m I A S h) n = some (.inl (), tw m I (va_up A 1 (pAges (A 1) s o)) S h, 0, 0) := by
  have e1 := t_oldest (Γ := Γ) (n := n) (m := m) (I := I) (A := A) (S := S) (h := h) hs
  rw [ho] at e1
  have e2 := t_totalOf (Γ := Γ) (n := n) (m := m) (I := I) (A := A) (S := S) (h := h) hs ho ho'
  obtain ⟨fu2, h2, e3⟩ := t_ages_p15 (Γ := Γ) (n := n) (m := m) (I := I) (S := S) (h := h) hs ho' (A 1) A (pTot (A 1) s o) o xFU (Nat.le_refl o) (by unfold xFU; omega)
  obtain ⟨fu2, rfl⟩ : ∃ g, fu2 = g + 1 := ⟨fu2 - 1, by omega⟩
  rw [pSh_o, va_id] at e3
  have c1 : Int32.ofNat 0 ≤ Int32.ofNat 0 := by decide
  have h1 := zI_lt hs (show 39 < 132 by omega)
  have h9 := zI_lt hs (show 9 < 132 by omega)
  have hoA : pAgA (A 1) s o (zI s 1) = Int32.ofNat o := by
    unfold pAgA pSh
    rw [va_up_ne _ _ (zI_ne (by omega)), if_neg (by unfold zI; omega)]
    exact ho
  have hoB : pAgB (A 1) s o (zI s 1) = Int32.ofNat o := by
    unfold pAgB
    rw [va_up_ne _ _ (zI_ne (by omega))]
    exact hoA
  have e4 := t_totalOf (Γ := Γ) (n := n) (m := m) (I := I) (A := va_up A 1 (pAgA (A 1) s o)) (S := S) (h := h) hs (by rw [va_up_self]; exact hoA) ho'
  have e5 := t_losesMarks (Γ := Γ) (n := n) (m := m) (I := I) (A := va_up A 1 (pAgB (A 1) s o)) (S := S) (h := h) hs (by rw [va_up_self]; exact hoB) ho' (pTot (A 1) s o)
  have e6 := t_ages_p118 (Γ := Γ) (n := n) (m := m) (I := I) (A := va_up A 1 (pAgC (A 1) s o)) (S := S) (h := h) hs ho' (pTot (pAgA (A 1) s o) s o) o 1 xFU 0 (by omega) (by unfold xFU; omega)
  simp (maxDischargeDepth := 9) only [xbind, xlet, xpure, tw_sel, tg_0, tg_4, tg_9, tg_12, tg_13, tg_14, tg_15, tg_16, tg_17, tg_18, tg_19, tg_20, tg_21, tg_24, tr_1, tr_2, tr_3, tr_5, tr_6, tr_7, tr_8, tr_10, tr_11, tr_22, tr_23, tp_0, tp_4, tp_9, tp_12, tp_13, tp_14, tp_15, tp_16, tp_17, tp_18, tp_19, tp_20, tp_21, tp_24, va_up_self, va_up_ne, va_uu, i_ofNat, i_add, i_mul, Nat.add_zero, Nat.zero_add, reduceIte, if_true, if_false, Nat.reduceEqDiff, ne_eq, not_false_eq_true, Nat.reduceEqDiff, not_true_eq_false] at e4 e5 e6
  unfold fX3_ages
  simp (maxDischargeDepth := 9) only [xbind, xlet, xpure, tw_sel, tg_0, tg_4, tg_9, tg_12, tg_13, tg_14, tg_15, tg_16, tg_17, tg_18, tg_19, tg_20, tg_21, tg_24, tr_1, tr_2, tr_3, tr_5, tr_6, tr_7, tr_8, tr_10, tr_11, tr_22, tr_23, tp_0, tp_4, tp_9, tp_12, tp_13, tp_14, tp_15, tp_16, tp_17, tp_18, tp_19, tp_20, tp_21, tp_24, va_up_self, va_up_ne, va_uu, i_ofNat, i_add, i_mul, Nat.add_zero, Nat.zero_add, reduceIte, if_true, if_false, Nat.reduceEqDiff, ne_eq, not_false_eq_true, Nat.reduceEqDiff, not_true_eq_false, e1, e2, e3]
  rw [fX3_ages_p15]
  unfold pAges
  have u1 : va_up (pSh (A 1) s o 0) (zI s 39) (Int32.ofNat 0) = pAgA (A 1) s o := rfl
  have u2 : va_up (pAgA (A 1) s o) (zI s 9) (pAgA (A 1) s o (zI s 9) + (pTot (A 1) s o - pTot (pAgA (A 1) s o) s o)) = pAgB (A 1) s o := rfl
  have u3 : pLose (pAgB (A 1) s o) s o (pTot (A 1) s o) = pAgC (A 1) s o := rfl
  rw [u3] at e5
  rw [Int64.zero_add] at e6
  simp (maxDischargeDepth := 9) only [xbind, xlet, xpure, tw_sel, tg_0, tg_4, tg_9, tg_12, tg_13, tg_14, tg_15, tg_16, tg_17, tg_18, tg_19, tg_20, tg_21, tg_24, tr_1, tr_2, tr_3, tr_5, tr_6, tr_7, tr_8, tr_10, tr_11, tr_22, tr_23, tp_0, tp_4, tp_9, tp_12, tp_13, tp_14, tp_15, tp_16, tp_17, tp_18, tp_19, tp_20, tp_21, tp_24, va_up_self, va_up_ne, va_uu, i_ofNat, i_add, i_mul, Nat.add_zero, Nat.zero_add, reduceIte, if_true, if_false, Nat.reduceEqDiff, ne_eq, not_false_eq_true, Nat.reduceEqDiff, not_true_eq_false, c1, t_at2, ts_1 h1, u1, e4, tl_1 h9, ts_1 h9, u2, e5, e6]
end TW6
