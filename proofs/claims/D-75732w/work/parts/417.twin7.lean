/-! part 417: the twin: a year is closed -/
def pDep : List (Nat × Int32) → Nat → Option Nat
  | [], d => some d
  | (k, _) :: ts, d => if k < 5 then pDep ts (d + 1) else if 2 ≤ d then pDep ts (d - 1) else none
theorem pEv_dep (env : Nat → Int64) : ∀ (ts : List (Nat × Int32)) (st : List Int64) (fl : Bool) (d : Nat), pDep ts st.length = some d → ∃ st2 fl2, pEv env ts st fl = some (st2, fl2) ∧ st2.length = d := by
  intro ts
  induction ts with
  | nil => intro st fl d h; cases h; exact ⟨st, fl, rfl, rfl⟩
  | cons t ts ih =>
    intro st fl d h
    obtain ⟨k, v⟩ := t
    unfold pDep at h
    unfold pEv
    by_cases hk : k < 5
    · rw [if_pos hk] at h
      rw [if_pos hk]
      exact ih (_ :: st) fl d h
    · rw [if_neg hk] at h
      rw [if_neg hk]
      by_cases h2 : 2 ≤ st.length
      · rw [if_pos h2] at h
        rcases st with _ | ⟨b, _ | ⟨a, st⟩⟩
        · simp at h2
        · simp at h2
        · exact ih (_ :: st) _ d (by simpa using h)
      · rw [if_neg h2] at h
        cases h
/-- the formula of species s in F: its words ts -/
def okF (F : Nat → Int32) (s : Nat) (ts : List (Nat × Int32)) : Prop := F (1401 * s) = Int32.ofNat (tlen ts) ∧ tlen ts ≤ 1400 ∧ pEnc F (1401 * s + 1) ts ∧ (ts = [] ∨ pDep ts 0 = some 1)
theorem tlen_len (ts : List (Nat × Int32)) : ts.length ≤ tlen ts := by
  induction ts with
  | nil => exact Nat.le_refl 0
  | cons t ts ih =>
    obtain ⟨k, v⟩ := t
    unfold tlen
    simp only [List.length_cons]
    split <;> omega
def pVal (env : Nat → Int64) (ts : List (Nat × Int32)) : Int64 × Bool := match ts, pEv env ts [] false with
  | _ :: _, some (v :: _, f) => (v, f)
  | _, _ => (0, false)
def pOpens (N : Nat → Int32) (s o : Nat) (v : Int64) (fl : Bool) : Nat → Int32 :=
  va_up (va_up (va_up (va_up (va_up (va_up (va_up N (zI s 7) (pTot N s o)) (zI s 8) (Int32.ofNat 0)) (zI s 9) (Int32.ofNat 0)) (zI s 10) (Int32.ofNat 0)) (zI s 11) (Int32.ofNat 0)) (zI s 6) (b2i fl)) (zI s 5) (if fl then Int32.ofNat 0 else (jmax 0 (jmin (pTot N s o).toInt64 v)).toInt32)
/-- a year begins for species s, its formula ts -/
def pOpen (N : Nat → Int32) (s : Nat) (ts : List (Nat × Int32)) : Nat → Int32 := pOpens N s (nn (N (zI s 1))) (pVal (pEnv N s (nn (N (zI s 1))) (nn (N (zI s 2)))) ts).1 (pVal (pEnv N s (nn (N (zI s 1))) (nn (N (zI s 2)))) ts).2
theorem pOpen_ne {N : Nat → Int32} {s j : Nat} {ts : List (Nat × Int32)} (h : ∀ k, 5 ≤ k → k ≤ 11 → j ≠ zI s k) : pOpen N s ts j = N j := by
  unfold pOpen pOpens
  rw [va_up_ne _ _ (h 5 (by omega) (by omega)), va_up_ne _ _ (h 6 (by omega) (by omega)), va_up_ne _ _ (h 11 (by omega) (by omega)), va_up_ne _ _ (h 10 (by omega) (by omega)), va_up_ne _ _ (h 9 (by omega) (by omega)), va_up_ne _ _ (h 8 (by omega) (by omega)), va_up_ne _ _ (h 7 (by omega) (by omega))]
theorem okN.opn {N : Nat → Int32} {s : Nat} {ts : List (Nat × Int32)} (ok : okN N) : okN (pOpen N s ts) :=
  ok.congr (fun j hj => pOpen_ne (fun k h1 h2 => by unfold zI; omega)) (fun t ht => ⟨pOpen_ne (fun k h1 h2 => by unfold zI; omega), pOpen_ne (fun k h1 h2 => by unfold zI; omega)⟩)
theorem pAges_ne {N : Nat → Int32} {s o j : Nat} (ho : o ≤ 12) (h : ∀ k, 3 ≤ k → k < 52 → j ≠ zI s k) : pAges N s o j = N j := by
  have h0 := h 39 (by omega) (by omega)
  have hs : pSh N s o 0 j = N j := by
    unfold pSh
    rw [if_neg]
    rintro ⟨q1, q2⟩
    exact h (j - zI s 0) (by unfold zI at *; omega) (by unfold zI at *; omega) (by unfold zI at *; omega)
  unfold pAges pAgD pAgC
  rw [va_up_ne _ _ (h 8 (by omega) (by omega)), va_up_ne _ _ h0, pLose_ne (h 4 (by omega) (by omega))]
  unfold pAgB pAgA
  rw [va_up_ne _ _ (h 9 (by omega) (by omega)), va_up_ne _ _ h0, hs]
theorem okN.ages {N : Nat → Int32} {s o : Nat} (ok : okN N) (ho : o ≤ 12) : okN (pAges N s o) :=
  ok.congr (fun j hj => pAges_ne ho (fun k h1 h2 => by unfold zI; omega)) (fun t ht => ⟨pAges_ne ho (fun k h1 h2 => by unfold zI; omega), pAges_ne ho (fun k h1 h2 => by unfold zI; omega)⟩)
def pAgesF : Nat → Nat → (Nat → Int32) → (Nat → Int32)
  | _, 0, N => N
  | s, k + 1, N => pAgesF (s + 1) k (pAges N s (nn (N (zI s 1))))
def pOpenF (TS : Nat → List (Nat × Int32)) : Nat → Nat → (Nat → Int32) → (Nat → Int32)
  | _, 0, N => N
  | s, k + 1, N => pOpenF TS (s + 1) k (pOpen N s (TS s))
theorem okN.agesF : ∀ (k s : Nat) (N : Nat → Int32), okN N → s + k = nn (N 0) → okN (pAgesF s k N) ∧ pAgesF s k N 0 = N 0 := by
  intro k
  induction k with
  | zero => intro s N ok h; exact ⟨ok, rfl⟩
  | succ k ih =>
    intro s N ok h
    have ho := (ok.2.2.2.2.2.2.2.2.1 s (by omega)).2.1
    have h0 : pAges N s (nn (N (zI s 1))) 0 = N 0 := pAges_ne ho (fun k h1 h2 => by unfold zI; omega)
    have := ih (s + 1) _ (ok.ages (s := s) ho) (by rw [h0]; omega)
    exact ⟨this.1, this.2.trans h0⟩
theorem okN.openF (TS : Nat → List (Nat × Int32)) : ∀ (k s : Nat) (N : Nat → Int32), okN N → okN (pOpenF TS s k N) := by
  intro k
  induction k with
  | zero => intro s N ok; exact ok
  | succ k ih =>
    intro s N ok
    exact ih (s + 1) _ ok.opn
/-- a part of the ledger of the year that is open -/
def pPart (N : Nat → Int32) (s w : Nat) : Int32 := if w = 0 then N (zI s 7) else if w = 1 then N (zI s 8) else if w = 2 then N (zI s 9) else if w = 3 then N (zI s 10) else if w = 4 then N (zI s 11) else if w = 5 then pTot N s (nn (N (zI s 1))) else N (zI s 5)
/-- the ledgers of many species are written as those of year c -/
def pLedW (L N : Nat → Int32) (c : Nat) (p : Nat) : Nat → Int32 := fun j => if c * 28 ≤ j ∧ j < c * 28 + p then pPart N ((j - c * 28) / 7) ((j - c * 28) % 7) else L j
section TW8
variable {Γ : Nat → Option Nat} {m n : Nat} {h : xH}
theorem t_valueOf {I : Nat → Int32} {A : Nat → Nat → Int32} {S : Nat → Int64} {s o a : Nat} {ts : List (Nat × Int32)} (hs : s < 4) (ho : A 1 (zI s 1) = Int32.ofNat o) (ho' : o ≤ 12) (ha : A 1 (zI s 2) = Int32.ofNat a) (ha' : a ≤ o) (hF : okF (A 5) s ts) :
    ∃ S', fX3_valueOf m (Int32.ofNat s) Γ (tw m I A S h) n = some (.inl (pVal (pEnv (A 1) s o a) ts).1, tw m (va_up I 9 (b2i (pVal (pEnv (A 1) s o a) ts).2)) A S' h, 0, 0) := by
  obtain ⟨f1, f2, f3, f4⟩ := hF
  have hl := tlen_len ts
  have n0 : narrow .boolean (.int (Int32.ofNat 0)) = .int (Int32.ofNat 0) ∧ fits .boolean (.int (Int32.ofNat 0)) = true := by decide
  have hd : ∃ d, pDep ts 0 = some d := by
    rcases f4 with rfl | f4
    · exact ⟨0, rfl⟩
    · exact ⟨1, f4⟩
  obtain ⟨d, hd⟩ := hd
  obtain ⟨st2, fl2, hv, hl2⟩ := pEv_dep (pEnv (A 1) s o a) ts [] false d hd
  obtain ⟨S', e, hS'⟩ := t_valueOf_p16 (Γ := Γ) (n := n) (m := m) (h := h) (A := A) (fr := 1401 * s) (len := tlen ts) hs ho ho' ha ha' (by omega) f1 f2 ts [] false 1 xFU (va_up I 9 (Int32.ofNat 0)) S st2 fl2 f3 (by omega) (fun j hj => absurd hj (Nat.not_lt_zero j)) (by simp; omega) hv (va_up_self _ _ _) (by unfold xFU; omega)
  refine ⟨S', ?_⟩
  simp (maxDischargeDepth := 9) only [xbind, xlet, xpure, tw_sel, tg_0, tg_4, tg_9, tg_12, tg_13, tg_14, tg_15, tg_16, tg_17, tg_18, tg_19, tg_20, tg_21, tg_24, tr_1, tr_2, tr_3, tr_5, tr_6, tr_7, tr_8, tr_10, tr_11, tr_22, tr_23, tp_0, tp_4, tp_9, tp_12, tp_13, tp_14, tp_15, tp_16, tp_17, tp_18, tp_19, tp_20, tp_21, tp_24, va_up_self, va_up_ne, va_uu, i_ofNat, i_add, i_mul, Nat.add_zero, Nat.zero_add, reduceIte, if_true, if_false, Nat.reduceEqDiff, ne_eq, not_false_eq_true, Nat.reduceEqDiff, not_true_eq_false, List.length_nil] at e
  have hval : (pVal (pEnv (A 1) s o a) ts) = (if tlen ts = 0 then 0 else S' 0, fl2) := by
    unfold pVal
    rcases ts with _ | ⟨t, ts⟩
    · cases hv
      rfl
    · have h1 : d = 1 := by
        rcases f4 with f4 | f4
        · cases f4
        · exact Option.some.inj (hd.symm.trans f4)
      subst h1
      obtain ⟨v, rfl⟩ := List.length_eq_one_iff.mp hl2
      rw [hv]
      have := hS' 0 (by simp)
      simp at this
      dsimp only
      rw [if_neg (by simp only [List.length_cons] at hl; omega), this]
  rw [hval]
  simp (maxDischargeDepth := 9) only [fX3_valueOf, xbind, xlet, xpure, tw_sel, tg_0, tg_4, tg_9, tg_12, tg_13, tg_14, tg_15, tg_16, tg_17, tg_18, tg_19, tg_20, tg_21, tg_24, tr_1, tr_2, tr_3, tr_5, tr_6, tr_7, tr_8, tr_10, tr_11, tr_22, tr_23, tp_0, tp_4, tp_9, tp_12, tp_13, tp_14, tp_15, tp_16, tp_17, tp_18, tp_19, tp_20, tp_21, tp_24, va_up_self, va_up_ne, va_uu, i_ofNat, i_add, i_mul, Nat.add_zero, Nat.zero_add, reduceIte, if_true, if_false, Nat.reduceEqDiff, ne_eq, not_false_eq_true, Nat.reduceEqDiff, not_true_eq_false, tpN_9 n0, e]
theorem t_opens {I : Nat → Int32} {A : Nat → Nat → Int32} {S : Nat → Int64} {s : Nat} {ts : List (Nat × Int32)} (hs : s < 4) (ok : okS (A 1) s) (hF : okF (A 5) s ts) :
    ∃ S' v9, fX3_opens m (Int32.ofNat s) Γ (tw m I A S h) n = some (.inl (), tw m (va_up I 9 v9) (va_up A 1 (pOpen (A 1) s ts)) S' h, 0, 0) := by
  obtain ⟨a1, a2, a3, a4⟩ := ok
  unfold pOpen
  unfold nN at a1 a3
  generalize nn (A 1 (zI s 1)) = o at *
  generalize nn (A 1 (zI s 2)) = a at *
  have e1 := t_totalOf (Γ := Γ) (n := n) (m := m) (I := I) (A := A) (S := S) (h := h) hs a1 a2
  obtain ⟨S', e2⟩ := t_valueOf (Γ := Γ) (n := n) (m := m) (I := I) (A := A) (S := S) (h := h) hs a1 a2 a3 a4 hF
  generalize (pVal (pEnv (A 1) s o a) ts).1 = v at *
  generalize (pVal (pEnv (A 1) s o a) ts).2 = fl at *
  refine ⟨S', b2i fl, ?_⟩
  have z10 : ¬ (Int32.ofNat 1 = Int32.ofNat 0) := by decide
  have k7 := zI_lt hs (show 7 < 132 by omega)
  have k8 := zI_lt hs (show 8 < 132 by omega)
  have k9 := zI_lt hs (show 9 < 132 by omega)
  have k10 := zI_lt hs (show 10 < 132 by omega)
  have k11 := zI_lt hs (show 11 < 132 by omega)
  have k6 := zI_lt hs (show 6 < 132 by omega)
  have k5 := zI_lt hs (show 5 < 132 by omega)
  cases fl
  · simp (maxDischargeDepth := 9) only [fX3_opens, xbind, xlet, xpure, tw_sel, tg_0, tg_4, tg_9, tg_12, tg_13, tg_14, tg_15, tg_16, tg_17, tg_18, tg_19, tg_20, tg_21, tg_24, tr_1, tr_2, tr_3, tr_5, tr_6, tr_7, tr_8, tr_10, tr_11, tr_22, tr_23, tp_0, tp_4, tp_9, tp_12, tp_13, tp_14, tp_15, tp_16, tp_17, tp_18, tp_19, tp_20, tp_21, tp_24, va_up_self, va_up_ne, va_uu, i_ofNat, i_add, i_mul, Nat.add_zero, Nat.zero_add, reduceIte, if_true, if_false, Nat.reduceEqDiff, ne_eq, not_false_eq_true, Nat.reduceEqDiff, not_true_eq_false, e1, e2, t_at2, ts_1 k7, ts_1 k8, ts_1 k9, ts_1 k10, ts_1 k11, b2i, fX3_opens_p94, ts_1 k6, ts_1 k5, i_jm, i_jx, fX3_opens_p126, pOpens, Bool.false_eq_true]
  · simp (maxDischargeDepth := 9) only [fX3_opens, xbind, xlet, xpure, tw_sel, tg_0, tg_4, tg_9, tg_12, tg_13, tg_14, tg_15, tg_16, tg_17, tg_18, tg_19, tg_20, tg_21, tg_24, tr_1, tr_2, tr_3, tr_5, tr_6, tr_7, tr_8, tr_10, tr_11, tr_22, tr_23, tp_0, tp_4, tp_9, tp_12, tp_13, tp_14, tp_15, tp_16, tp_17, tp_18, tp_19, tp_20, tp_21, tp_24, va_up_self, va_up_ne, va_uu, i_ofNat, i_add, i_mul, Nat.add_zero, Nat.zero_add, reduceIte, if_true, if_false, Nat.reduceEqDiff, ne_eq, not_false_eq_true, Nat.reduceEqDiff, not_true_eq_false, e1, e2, t_at2, ts_1 k7, ts_1 k8, ts_1 k9, ts_1 k10, ts_1 k11, b2i, z10, fX3_opens_p94, ts_1 k6, ts_1 k5, i_jm, i_jx, fX3_opens_p126, pOpens]
theorem t_part {I : Nat → Int32} {A : Nat → Nat → Int32} {S : Nat → Int64} {s w : Nat} (hs : s < 4) (ok : okS (A 1) s) (hw : w < 7) : fX3_part m (Int32.ofNat s) (Int32.ofNat w) Γ (tw m I A S h) n = some (.inl (pPart (A 1) s w), tw m I A S h, 0, 0) := by
  obtain ⟨a1, a2, a3, a4⟩ := ok
  unfold nN at a1
  have lit : ∀ c, c < 100 → ((Int32.ofNat w = Int32.ofNat c) ↔ w = c) := fun c hc => i_eq (by omega) (by omega)
  have e := fun (c : Nat) (hc : c < 132) => t_of (Γ := Γ) (n := n) (m := m) (I := I) (A := A) (S := S) (h := h) hs hc
  have e1 := t_totalOf (Γ := Γ) (n := n) (m := m) (I := I) (A := A) (S := S) (h := h) hs a1 a2
  unfold fX3_part pPart
  simp (maxDischargeDepth := 9) only [xbind, xlet, xpure, tw_sel, tg_0, tg_4, tg_9, tg_12, tg_13, tg_14, tg_15, tg_16, tg_17, tg_18, tg_19, tg_20, tg_21, tg_24, tr_1, tr_2, tr_3, tr_5, tr_6, tr_7, tr_8, tr_10, tr_11, tr_22, tr_23, tp_0, tp_4, tp_9, tp_12, tp_13, tp_14, tp_15, tp_16, tp_17, tp_18, tp_19, tp_20, tp_21, tp_24, va_up_self, va_up_ne, va_uu, i_ofNat, i_add, i_mul, Nat.add_zero, Nat.zero_add, reduceIte, if_true, if_false, Nat.reduceEqDiff, ne_eq, not_false_eq_true, Nat.reduceEqDiff, not_true_eq_false, lit 0 (by omega), lit 1 (by omega), lit 2 (by omega), lit 3 (by omega), lit 4 (by omega), lit 5 (by omega)]
  by_cases c0 : w = 0
  · simp (maxDischargeDepth := 9) only [xbind, xlet, xpure, tw_sel, tg_0, tg_4, tg_9, tg_12, tg_13, tg_14, tg_15, tg_16, tg_17, tg_18, tg_19, tg_20, tg_21, tg_24, tr_1, tr_2, tr_3, tr_5, tr_6, tr_7, tr_8, tr_10, tr_11, tr_22, tr_23, tp_0, tp_4, tp_9, tp_12, tp_13, tp_14, tp_15, tp_16, tp_17, tp_18, tp_19, tp_20, tp_21, tp_24, va_up_self, va_up_ne, va_uu, i_ofNat, i_add, i_mul, Nat.add_zero, Nat.zero_add, reduceIte, if_true, if_false, Nat.reduceEqDiff, ne_eq, not_false_eq_true, Nat.reduceEqDiff, not_true_eq_false, eq_true c0, e 7 (by omega)]
  by_cases c1 : w = 1
  · simp (maxDischargeDepth := 9) only [xbind, xlet, xpure, tw_sel, tg_0, tg_4, tg_9, tg_12, tg_13, tg_14, tg_15, tg_16, tg_17, tg_18, tg_19, tg_20, tg_21, tg_24, tr_1, tr_2, tr_3, tr_5, tr_6, tr_7, tr_8, tr_10, tr_11, tr_22, tr_23, tp_0, tp_4, tp_9, tp_12, tp_13, tp_14, tp_15, tp_16, tp_17, tp_18, tp_19, tp_20, tp_21, tp_24, va_up_self, va_up_ne, va_uu, i_ofNat, i_add, i_mul, Nat.add_zero, Nat.zero_add, reduceIte, if_true, if_false, Nat.reduceEqDiff, ne_eq, not_false_eq_true, Nat.reduceEqDiff, not_true_eq_false, eq_true c1, c0, e 8 (by omega)]
  by_cases c2 : w = 2
  · simp (maxDischargeDepth := 9) only [xbind, xlet, xpure, tw_sel, tg_0, tg_4, tg_9, tg_12, tg_13, tg_14, tg_15, tg_16, tg_17, tg_18, tg_19, tg_20, tg_21, tg_24, tr_1, tr_2, tr_3, tr_5, tr_6, tr_7, tr_8, tr_10, tr_11, tr_22, tr_23, tp_0, tp_4, tp_9, tp_12, tp_13, tp_14, tp_15, tp_16, tp_17, tp_18, tp_19, tp_20, tp_21, tp_24, va_up_self, va_up_ne, va_uu, i_ofNat, i_add, i_mul, Nat.add_zero, Nat.zero_add, reduceIte, if_true, if_false, Nat.reduceEqDiff, ne_eq, not_false_eq_true, Nat.reduceEqDiff, not_true_eq_false, eq_true c2, c0, c1, e 9 (by omega)]
  by_cases c3 : w = 3
  · simp (maxDischargeDepth := 9) only [xbind, xlet, xpure, tw_sel, tg_0, tg_4, tg_9, tg_12, tg_13, tg_14, tg_15, tg_16, tg_17, tg_18, tg_19, tg_20, tg_21, tg_24, tr_1, tr_2, tr_3, tr_5, tr_6, tr_7, tr_8, tr_10, tr_11, tr_22, tr_23, tp_0, tp_4, tp_9, tp_12, tp_13, tp_14, tp_15, tp_16, tp_17, tp_18, tp_19, tp_20, tp_21, tp_24, va_up_self, va_up_ne, va_uu, i_ofNat, i_add, i_mul, Nat.add_zero, Nat.zero_add, reduceIte, if_true, if_false, Nat.reduceEqDiff, ne_eq, not_false_eq_true, Nat.reduceEqDiff, not_true_eq_false, eq_true c3, c0, c1, c2, e 10 (by omega)]
  by_cases c4 : w = 4
  · simp (maxDischargeDepth := 9) only [xbind, xlet, xpure, tw_sel, tg_0, tg_4, tg_9, tg_12, tg_13, tg_14, tg_15, tg_16, tg_17, tg_18, tg_19, tg_20, tg_21, tg_24, tr_1, tr_2, tr_3, tr_5, tr_6, tr_7, tr_8, tr_10, tr_11, tr_22, tr_23, tp_0, tp_4, tp_9, tp_12, tp_13, tp_14, tp_15, tp_16, tp_17, tp_18, tp_19, tp_20, tp_21, tp_24, va_up_self, va_up_ne, va_uu, i_ofNat, i_add, i_mul, Nat.add_zero, Nat.zero_add, reduceIte, if_true, if_false, Nat.reduceEqDiff, ne_eq, not_false_eq_true, Nat.reduceEqDiff, not_true_eq_false, eq_true c4, c0, c1, c2, c3, e 11 (by omega)]
  by_cases c5 : w = 5
  · simp (maxDischargeDepth := 9) only [xbind, xlet, xpure, tw_sel, tg_0, tg_4, tg_9, tg_12, tg_13, tg_14, tg_15, tg_16, tg_17, tg_18, tg_19, tg_20, tg_21, tg_24, tr_1, tr_2, tr_3, tr_5, tr_6, tr_7, tr_8, tr_10, tr_11, tr_22, tr_23, tp_0, tp_4, tp_9, tp_12, tp_13, tp_14, tp_15, tp_16, tp_17, tp_18, tp_19, tp_20, tp_21, tp_24, va_up_self, va_up_ne, va_uu, i_ofNat, i_add, i_mul, Nat.add_zero, Nat.zero_add, reduceIte, if_true, if_false, Nat.reduceEqDiff, ne_eq, not_false_eq_true, Nat.reduceEqDiff, not_true_eq_false, eq_true c5, c0, c1, c2, c3, c4, e1]
  · simp (maxDischargeDepth := 9) only [xbind, xlet, xpure, tw_sel, tg_0, tg_4, tg_9, tg_12, tg_13, tg_14, tg_15, tg_16, tg_17, tg_18, tg_19, tg_20, tg_21, tg_24, tr_1, tr_2, tr_3, tr_5, tr_6, tr_7, tr_8, tr_10, tr_11, tr_22, tr_23, tp_0, tp_4, tp_9, tp_12, tp_13, tp_14, tp_15, tp_16, tp_17, tp_18, tp_19, tp_20, tp_21, tp_24, va_up_self, va_up_ne, va_uu, i_ofNat, i_add, i_mul, Nat.add_zero, Nat.zero_add, reduceIte, if_true, if_false, Nat.reduceEqDiff, ne_eq, not_false_eq_true, Nat.reduceEqDiff, not_true_eq_false, c0, c1, c2, c3, c4, c5, e 5 (by omega)]
theorem pLedW_step {L N : Nat → Int32} {c s w : Nat} (hw : w < 7) : va_up (pLedW L N c (7 * s + w)) ((c * 4 + s) * 7 + w) (pPart N s w) = pLedW L N c (7 * s + (w + 1)) := by
  funext j
  rw [va_ap]
  by_cases hj : j = (c * 4 + s) * 7 + w
  · rw [if_pos hj]
    unfold pLedW
    rw [if_pos (by omega)]
    have e1 : (j - c * 28) / 7 = s := by omega
    have e2 : (j - c * 28) % 7 = w := by omega
    rw [e1, e2]
  · rw [if_neg hj]
    unfold pLedW
    by_cases hc : c * 28 ≤ j ∧ j < c * 28 + (7 * s + w)
    · rw [if_pos hc, if_pos (by omega)]
    · rw [if_neg hc, if_neg (by omega)]
theorem pLedW_0 {L N : Nat → Int32} {c : Nat} : pLedW L N c 0 = L := by
  funext j
  unfold pLedW
  rw [if_neg (by omega)]
end TW8
