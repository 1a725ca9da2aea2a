/-! part 416: the twin: formulas -/
def plim (v : Int64) : Int64 := jmax (-1000000000) (jmin 1000000000 v)
def b2i (b : Bool) : Int32 := if b then Int32.ofNat 1 else Int32.ofNat 0
def pWork (k : Nat) (a b : Int64) : Int64 := if k = 5 then plim (a + b) else if k = 6 then plim (a - b) else if k = 7 then plim (a * b) else if k = 8 then (if b = 0 then 0 else plim (a / b)) else if k = 9 then jmin a b else jmax a b
def pFlt (k : Nat) (b : Int64) : Bool := decide (k = 8 ∧ b = 0)
/-- words of a formula: (0, number), (1 to 4, a fact), (5 to 10, a sign) -/
def pEv (env : Nat → Int64) : List (Nat × Int32) → List Int64 → Bool → Option (List Int64 × Bool)
  | [], st, f => some (st, f)
  | (k, v) :: ts, st, f => if k < 5 then pEv env ts ((if k = 0 then v.toInt64 else env k) :: st) f else match st with
    | b :: a :: st' => pEv env ts (pWork k a b :: st') (f || pFlt k b)
    | _ => none
def tlen : List (Nat × Int32) → Nat
  | [] => 0
  | (k, _) :: ts => (if k = 0 then 2 else 1) + tlen ts
def pEnc (F : Nat → Int32) : Nat → List (Nat × Int32) → Prop
  | _, [] => True
  | p, (k, v) :: ts => k ≤ 10 ∧ F p = Int32.ofNat k ∧ (if k = 0 then F (p + 1) = v ∧ pEnc F (p + 2) ts else pEnc F (p + 1) ts)
def pStk (S : Nat → Int64) (st : List Int64) : Prop := ∀ j (hj : j < st.length), S (st.length - 1 - j) = st[j]
theorem pStk_push {S : Nat → Int64} {st : List Int64} (h : pStk S st) (v : Int64) : pStk (va_up S st.length v) (v :: st) := by
  intro j hj
  rcases j with _ | j
  · simp [va_ap]
  · have hj' : j < st.length := by simpa using hj
    have := h j hj'
    simp only [List.length_cons, List.getElem_cons_succ]
    rw [va_up_ne _ _ (by omega), ← this]
    congr 1
    omega
theorem pStk_work {S : Nat → Int64} {a b w : Int64} {st : List Int64} (h : pStk S (b :: a :: st)) : pStk (va_up S st.length w) (w :: st) := by
  intro j hj
  rcases j with _ | j
  · simp [va_ap]
  · have hj' : j < st.length := by simpa using hj
    have := h (j + 2) (by simp; omega)
    simp only [List.length_cons, List.getElem_cons_succ] at this ⊢
    rw [va_up_ne _ _ (by omega), ← this]
    congr 1
    omega
theorem j_cmp0 {b : Int64} : lg_cmp b 0 = Int32.ofNat 0 ↔ b = 0 := by
  unfold lg_cmp
  constructor
  · intro hh
    split at hh
    · exact absurd hh (by decide)
    · split at hh
      · assumption
      · exact absurd hh (by decide)
  · rintro rfl
    decide
section TW7
variable {Γ : Nat → Option Nat} {m n : Nat} {h : xH}
theorem t_lim (v : Int64) : fX3_limited v Γ h n = some (.inl (plim v), h, 0, 0) := by
  simp only [fX3_limited, xbind, i_jm, i_jx, xpure, plim]
theorem t_worked {I : Nat → Int32} {A : Nat → Nat → Int32} {S : Nat → Int64} {k : Nat} {fl : Bool} (h5 : 5 ≤ k) (h10 : k ≤ 10) (hf : I 9 = b2i fl) (a b : Int64) : fX3_worked m (Int32.ofNat k) a b Γ (tw m I A S h) n = some (.inl (pWork k a b), tw m (va_up I 9 (b2i (fl || pFlt k b))) A S h, 0, 0) := by
  have hI : va_up I 9 (b2i fl) = I := by rw [← hf, va_id]
  have lit : ∀ c, c < 100 → ((Int32.ofNat k = Int32.ofNat c) ↔ k = c) := fun c hc => i_eq (by omega) (by omega)
  unfold fX3_worked
  simp only [i_ofNat, lit 5 (by omega), lit 6 (by omega), lit 7 (by omega), lit 8 (by omega), lit 9 (by omega)]
  by_cases k5 : k = 5
  · subst k5
    simp (maxDischargeDepth := 9) only [xbind, xlet, xpure, tw_sel, tg_0, tg_4, tg_9, tg_12, tg_13, tg_14, tg_15, tg_16, tg_17, tg_18, tg_19, tg_20, tg_21, tg_24, tr_1, tr_2, tr_3, tr_5, tr_6, tr_7, tr_8, tr_10, tr_11, tr_22, tr_23, tp_0, tp_4, tp_9, tp_12, tp_13, tp_14, tp_15, tp_16, tp_17, tp_18, tp_19, tp_20, tp_21, tp_24, va_up_self, va_up_ne, va_uu, i_ofNat, i_add, i_mul, Nat.add_zero, Nat.zero_add, reduceIte, if_true, if_false, Nat.reduceEqDiff, ne_eq, not_false_eq_true, Nat.reduceEqDiff, not_true_eq_false, t_lim, pWork, pFlt, hI, Nat.reduceEqDiff, false_and, decide_false, Bool.or_false]
  by_cases k6 : k = 6
  · subst k6
    simp (maxDischargeDepth := 9) only [xbind, xlet, xpure, tw_sel, tg_0, tg_4, tg_9, tg_12, tg_13, tg_14, tg_15, tg_16, tg_17, tg_18, tg_19, tg_20, tg_21, tg_24, tr_1, tr_2, tr_3, tr_5, tr_6, tr_7, tr_8, tr_10, tr_11, tr_22, tr_23, tp_0, tp_4, tp_9, tp_12, tp_13, tp_14, tp_15, tp_16, tp_17, tp_18, tp_19, tp_20, tp_21, tp_24, va_up_self, va_up_ne, va_uu, i_ofNat, i_add, i_mul, Nat.add_zero, Nat.zero_add, reduceIte, if_true, if_false, Nat.reduceEqDiff, ne_eq, not_false_eq_true, Nat.reduceEqDiff, not_true_eq_false, t_lim, pWork, pFlt, hI, Nat.reduceEqDiff, false_and, decide_false, Bool.or_false]
  by_cases k7 : k = 7
  · subst k7
    simp (maxDischargeDepth := 9) only [xbind, xlet, xpure, tw_sel, tg_0, tg_4, tg_9, tg_12, tg_13, tg_14, tg_15, tg_16, tg_17, tg_18, tg_19, tg_20, tg_21, tg_24, tr_1, tr_2, tr_3, tr_5, tr_6, tr_7, tr_8, tr_10, tr_11, tr_22, tr_23, tp_0, tp_4, tp_9, tp_12, tp_13, tp_14, tp_15, tp_16, tp_17, tp_18, tp_19, tp_20, tp_21, tp_24, va_up_self, va_up_ne, va_uu, i_ofNat, i_add, i_mul, Nat.add_zero, Nat.zero_add, reduceIte, if_true, if_false, Nat.reduceEqDiff, ne_eq, not_false_eq_true, Nat.reduceEqDiff, not_true_eq_false, t_lim, pWork, pFlt, hI, Nat.reduceEqDiff, false_and, decide_false, Bool.or_false]
  by_cases k8 : k = 8
  · subst k8
    have n0 : narrow .boolean (.int (Int32.ofNat 0)) = .int (Int32.ofNat 0) ∧ fits .boolean (.int (Int32.ofNat 0)) = true := by decide
    have n1 : narrow .boolean (.int (Int32.ofNat 1)) = .int (Int32.ofNat 1) ∧ fits .boolean (.int (Int32.ofNat 1)) = true := by decide
    have z10 : ¬ (Int32.ofNat 1 = Int32.ofNat 0) := by decide
    by_cases hb : b = 0
    · subst hb
      have c0 : lg_cmp 0 0 = Int32.ofNat 0 := by decide
      cases fl
      · simp (maxDischargeDepth := 9) only [xbind, xlet, xpure, tw_sel, tg_0, tg_4, tg_9, tg_12, tg_13, tg_14, tg_15, tg_16, tg_17, tg_18, tg_19, tg_20, tg_21, tg_24, tr_1, tr_2, tr_3, tr_5, tr_6, tr_7, tr_8, tr_10, tr_11, tr_22, tr_23, tp_0, tp_4, tp_9, tp_12, tp_13, tp_14, tp_15, tp_16, tp_17, tp_18, tp_19, tp_20, tp_21, tp_24, va_up_self, va_up_ne, va_uu, i_ofNat, i_add, i_mul, Nat.add_zero, Nat.zero_add, reduceIte, if_true, if_false, Nat.reduceEqDiff, ne_eq, not_false_eq_true, Nat.reduceEqDiff, not_true_eq_false, hf, b2i, c0, fX3_worked_p75, fX3_worked_p80, tpN_9 n1, pWork, pFlt, Bool.false_or, and_self, decide_true, Bool.false_eq_true]
      · simp (maxDischargeDepth := 9) only [xbind, xlet, xpure, tw_sel, tg_0, tg_4, tg_9, tg_12, tg_13, tg_14, tg_15, tg_16, tg_17, tg_18, tg_19, tg_20, tg_21, tg_24, tr_1, tr_2, tr_3, tr_5, tr_6, tr_7, tr_8, tr_10, tr_11, tr_22, tr_23, tp_0, tp_4, tp_9, tp_12, tp_13, tp_14, tp_15, tp_16, tp_17, tp_18, tp_19, tp_20, tp_21, tp_24, va_up_self, va_up_ne, va_uu, i_ofNat, i_add, i_mul, Nat.add_zero, Nat.zero_add, reduceIte, if_true, if_false, Nat.reduceEqDiff, ne_eq, not_false_eq_true, Nat.reduceEqDiff, not_true_eq_false, hf, b2i, c0, z10, fX3_worked_p75, fX3_worked_p80, tpN_9 n1, pWork, pFlt, Bool.true_or]
    · have c0 : ¬ lg_cmp b 0 = Int32.ofNat 0 := fun q => hb (j_cmp0.mp q)
      cases fl
      · simp (maxDischargeDepth := 9) only [xbind, xlet, xpure, tw_sel, tg_0, tg_4, tg_9, tg_12, tg_13, tg_14, tg_15, tg_16, tg_17, tg_18, tg_19, tg_20, tg_21, tg_24, tr_1, tr_2, tr_3, tr_5, tr_6, tr_7, tr_8, tr_10, tr_11, tr_22, tr_23, tp_0, tp_4, tp_9, tp_12, tp_13, tp_14, tp_15, tp_16, tp_17, tp_18, tp_19, tp_20, tp_21, tp_24, va_up_self, va_up_ne, va_uu, i_ofNat, i_add, i_mul, Nat.add_zero, Nat.zero_add, reduceIte, if_true, if_false, Nat.reduceEqDiff, ne_eq, not_false_eq_true, Nat.reduceEqDiff, not_true_eq_false, hf, b2i, c0, fX3_worked_p75, fX3_worked_p80, tpN_9 n0, pWork, pFlt, Bool.false_or, hb, and_false, decide_false, Bool.false_eq_true, xdvJ, t_lim]
      · simp (maxDischargeDepth := 9) only [xbind, xlet, xpure, tw_sel, tg_0, tg_4, tg_9, tg_12, tg_13, tg_14, tg_15, tg_16, tg_17, tg_18, tg_19, tg_20, tg_21, tg_24, tr_1, tr_2, tr_3, tr_5, tr_6, tr_7, tr_8, tr_10, tr_11, tr_22, tr_23, tp_0, tp_4, tp_9, tp_12, tp_13, tp_14, tp_15, tp_16, tp_17, tp_18, tp_19, tp_20, tp_21, tp_24, va_up_self, va_up_ne, va_uu, i_ofNat, i_add, i_mul, Nat.add_zero, Nat.zero_add, reduceIte, if_true, if_false, Nat.reduceEqDiff, ne_eq, not_false_eq_true, Nat.reduceEqDiff, not_true_eq_false, hf, b2i, c0, z10, fX3_worked_p75, fX3_worked_p80, tpN_9 n1, pWork, pFlt, Bool.true_or, hb, xdvJ, t_lim]
  by_cases k9 : k = 9
  · subst k9
    simp (maxDischargeDepth := 9) only [xbind, xlet, xpure, tw_sel, tg_0, tg_4, tg_9, tg_12, tg_13, tg_14, tg_15, tg_16, tg_17, tg_18, tg_19, tg_20, tg_21, tg_24, tr_1, tr_2, tr_3, tr_5, tr_6, tr_7, tr_8, tr_10, tr_11, tr_22, tr_23, tp_0, tp_4, tp_9, tp_12, tp_13, tp_14, tp_15, tp_16, tp_17, tp_18, tp_19, tp_20, tp_21, tp_24, va_up_self, va_up_ne, va_uu, i_ofNat, i_add, i_mul, Nat.add_zero, Nat.zero_add, reduceIte, if_true, if_false, Nat.reduceEqDiff, ne_eq, not_false_eq_true, Nat.reduceEqDiff, not_true_eq_false, i_jm, pWork, pFlt, hI, Nat.reduceEqDiff, false_and, decide_false, Bool.or_false]
  · simp (maxDischargeDepth := 9) only [xbind, xlet, xpure, tw_sel, tg_0, tg_4, tg_9, tg_12, tg_13, tg_14, tg_15, tg_16, tg_17, tg_18, tg_19, tg_20, tg_21, tg_24, tr_1, tr_2, tr_3, tr_5, tr_6, tr_7, tr_8, tr_10, tr_11, tr_22, tr_23, tp_0, tp_4, tp_9, tp_12, tp_13, tp_14, tp_15, tp_16, tp_17, tp_18, tp_19, tp_20, tp_21, tp_24, va_up_self, va_up_ne, va_uu, i_ofNat, i_add, i_mul, Nat.add_zero, Nat.zero_add, reduceIte, if_true, if_false, Nat.reduceEqDiff, ne_eq, not_false_eq_true, Nat.reduceEqDiff, not_true_eq_false, i_jx, pWork, pFlt, hI, k5, k6, k7, k8, k9, false_and, decide_false, Bool.or_false]
/-- what a formula asks about -/
def pEnv (N : Nat → Int32) (s o a : Nat) : Nat → Int64 := fun k => if k = 1 then (pTot N s o).toInt64 else if k = 2 then (pAdl N s a o).toInt64 else if k = 3 then (N (zI s 39)).toInt64 else (N 1).toInt64
theorem t_valueOf_p16 {A : Nat → Nat → Int32} {s o a fr len : Nat} (hs : s < 4) (ho : A 1 (zI s 1) = Int32.ofNat o) (ho' : o ≤ 12) (ha : A 1 (zI s 2) = Int32.ofNat a) (ha' : a ≤ o) (hfr : fr + 1400 < 5604) (hl : A 5 fr = Int32.ofNat len) (hl' : len ≤ 1400) :
    ∀ (ts : List (Nat × Int32)) (st : List Int64) (fl : Bool) (k fu : Nat) (I : Nat → Int32) (S : Nat → Int64) (st2 : List Int64) (fl2 : Bool), pEnc (A 5) (fr + k) ts → k + tlen ts = len + 1 → pStk S st → st.length + ts.length ≤ 1400 → pEv (pEnv (A 1) s o a) ts st fl = some (st2, fl2) → I 9 = b2i fl → ts.length < fu →
      ∃ S', fX3_valueOf_p16 fu m (Int32.ofNat s) (Int32.ofNat fr) (Int32.ofNat st.length) (Int32.ofNat k) Γ (tw m I A S h) n = some (.inl (if len = 0 then 0 else S' 0), tw m (va_up I 9 (b2i fl2)) A S' h, 0, 0) ∧ pStk S' st2 := by
  intro ts
  induction ts with
  | nil =>
    intro st fl k fu I S st2 fl2 hE hk hS hL hv hI hf
    obtain ⟨fu, rfl⟩ : ∃ g, fu = g + 1 := ⟨fu - 1, by omega⟩
    cases hv
    refine ⟨S, ?_, hS⟩
    have hk' : k = len + 1 := by simpa [tlen] using hk
    have c1 : Int32.ofNat len < Int32.ofNat k := by rw [i_lt (by omega) (by omega)]; omega
    have hI' : va_up I 9 (b2i fl) = I := by rw [← hI, va_id]
    have lit : (Int32.ofNat len = Int32.ofNat 0) ↔ len = 0 := i_eq (by omega) (by omega)
    rw [fX3_valueOf_p16]
    by_cases l0 : len = 0
    · have l0' : (len = 0) = True := eq_true l0
      simp (maxDischargeDepth := 9) only [xbind, xlet, xpure, tw_sel, tg_0, tg_4, tg_9, tg_12, tg_13, tg_14, tg_15, tg_16, tg_17, tg_18, tg_19, tg_20, tg_21, tg_24, tr_1, tr_2, tr_3, tr_5, tr_6, tr_7, tr_8, tr_10, tr_11, tr_22, tr_23, tp_0, tp_4, tp_9, tp_12, tp_13, tp_14, tp_15, tp_16, tp_17, tp_18, tp_19, tp_20, tp_21, tp_24, va_up_self, va_up_ne, va_uu, i_ofNat, i_add, i_mul, Nat.add_zero, Nat.zero_add, reduceIte, if_true, if_false, Nat.reduceEqDiff, ne_eq, not_false_eq_true, Nat.reduceEqDiff, not_true_eq_false, tl_5 (show fr < 5604 by omega), hl, c1, lit, l0', hI']
    · simp (maxDischargeDepth := 9) only [xbind, xlet, xpure, tw_sel, tg_0, tg_4, tg_9, tg_12, tg_13, tg_14, tg_15, tg_16, tg_17, tg_18, tg_19, tg_20, tg_21, tg_24, tr_1, tr_2, tr_3, tr_5, tr_6, tr_7, tr_8, tr_10, tr_11, tr_22, tr_23, tp_0, tp_4, tp_9, tp_12, tp_13, tp_14, tp_15, tp_16, tp_17, tp_18, tp_19, tp_20, tp_21, tp_24, va_up_self, va_up_ne, va_uu, i_ofNat, i_add, i_mul, Nat.add_zero, Nat.zero_add, reduceIte, if_true, if_false, Nat.reduceEqDiff, ne_eq, not_false_eq_true, Nat.reduceEqDiff, not_true_eq_false, tl_5 (show fr < 5604 by omega), hl, c1, lit, l0, hI', tl_7 (show 0 < 1401 by omega)]
  | cons t ts ih =>
    intro st fl k fu I S st2 fl2 hE hk hS hL hv hI hf
    obtain ⟨fu, rfl⟩ : ∃ g, fu = g + 1 := ⟨fu - 1, by omega⟩
    obtain ⟨c, v⟩ := t
    simp only [List.length_cons] at hL hf
    unfold pEnc at hE
    obtain ⟨hc10, hc, hE⟩ := hE
    unfold tlen at hk
    unfold pEv at hv
    have hkl : k ≤ len := by split at hk <;> omega
    have c1 : ¬ Int32.ofNat len < Int32.ofNat k := by rw [i_lt (by omega) (by omega)]; omega
    have lit : ∀ d, d < 100 → ((Int32.ofNat c = Int32.ofNat d) ↔ c = d) := fun d hd => i_eq (by omega) (by omega)
    have hlt : (Int32.ofNat c < Int32.ofNat 5) ↔ c < 5 := i_lt (by omega) (by omega)
    rw [fX3_valueOf_p16]
    by_cases c5 : c < 5
    · rw [if_pos c5] at hv
      by_cases c0 : c = 0
      · subst c0
        simp only [if_true] at hv hE hk
        obtain ⟨hv2, hE⟩ := hE
        have z0 : Int32.ofNat 0 < Int32.ofNat 5 := by decide
        obtain ⟨S', e, hS'⟩ := ih (v.toInt64 :: st) fl (k + 2) fu I (va_up S st.length v.toInt64) st2 fl2 hE (by omega) (pStk_push hS _) (by simp; omega) hv hI (by omega)
        refine ⟨S', ?_, hS'⟩
        simp only [List.length_cons] at e
        rw [Nat.add_assoc] at hv2
        simp (maxDischargeDepth := 9) only [xbind, xlet, xpure, tw_sel, tg_0, tg_4, tg_9, tg_12, tg_13, tg_14, tg_15, tg_16, tg_17, tg_18, tg_19, tg_20, tg_21, tg_24, tr_1, tr_2, tr_3, tr_5, tr_6, tr_7, tr_8, tr_10, tr_11, tr_22, tr_23, tp_0, tp_4, tp_9, tp_12, tp_13, tp_14, tp_15, tp_16, tp_17, tp_18, tp_19, tp_20, tp_21, tp_24, va_up_self, va_up_ne, va_uu, i_ofNat, i_add, i_mul, Nat.add_zero, Nat.zero_add, reduceIte, if_true, if_false, Nat.reduceEqDiff, ne_eq, not_false_eq_true, Nat.reduceEqDiff, not_true_eq_false, tl_5 (show fr < 5604 by omega), hl, c1, tl_5 (show fr + k < 5604 by omega), hc, z0, fX3_valueOf_p86, tl_5 (show fr + (k + 1) < 5604 by omega), hv2, fX3_valueOf_p162, ts_7 (show st.length < 1401 by omega), fX3_valueOf_p166, Nat.add_assoc, Nat.reduceAdd]
        simp only [e]
      · rw [if_neg c0] at hv hE hk
        obtain ⟨S', e, hS'⟩ := ih (pEnv (A 1) s o a c :: st) fl (k + 1) fu I (va_up S st.length (pEnv (A 1) s o a c)) st2 fl2 hE (by omega) (pStk_push hS _) (by simp; omega) hv hI (by omega)
        refine ⟨S', ?_, hS'⟩
        simp only [List.length_cons] at e
        have e1 := t_totalOf (Γ := Γ) (n := n) (m := m) (I := I) (A := A) (S := S) (h := h) hs ho ho'
        have e2 := t_adultsOf (Γ := Γ) (n := n) (m := m) (I := I) (A := A) (S := S) (h := h) hs ho ho' ha ha'
        have e3 := t_cohortOf (Γ := Γ) (n := n) (m := m) (I := I) (A := A) (S := S) (h := h) hs (show 0 < 93 by omega)
        simp (maxDischargeDepth := 9) only [xbind, xlet, xpure, tw_sel, tg_0, tg_4, tg_9, tg_12, tg_13, tg_14, tg_15, tg_16, tg_17, tg_18, tg_19, tg_20, tg_21, tg_24, tr_1, tr_2, tr_3, tr_5, tr_6, tr_7, tr_8, tr_10, tr_11, tr_22, tr_23, tp_0, tp_4, tp_9, tp_12, tp_13, tp_14, tp_15, tp_16, tp_17, tp_18, tp_19, tp_20, tp_21, tp_24, va_up_self, va_up_ne, va_uu, i_ofNat, i_add, i_mul, Nat.add_zero, Nat.zero_add, reduceIte, if_true, if_false, Nat.reduceEqDiff, ne_eq, not_false_eq_true, Nat.reduceEqDiff, not_true_eq_false, tl_5 (show fr < 5604 by omega), hl, c1, tl_5 (show fr + k < 5604 by omega), hc, hlt, c5, lit 0 (by omega), c0, fX3_valueOf_p86, lit 1 (by omega), lit 2 (by omega), lit 3 (by omega)]
        by_cases c1' : c = 1
        · subst c1'
          simp (maxDischargeDepth := 9) only [pEnv, xbind, xlet, xpure, tw_sel, tg_0, tg_4, tg_9, tg_12, tg_13, tg_14, tg_15, tg_16, tg_17, tg_18, tg_19, tg_20, tg_21, tg_24, tr_1, tr_2, tr_3, tr_5, tr_6, tr_7, tr_8, tr_10, tr_11, tr_22, tr_23, tp_0, tp_4, tp_9, tp_12, tp_13, tp_14, tp_15, tp_16, tp_17, tp_18, tp_19, tp_20, tp_21, tp_24, va_up_self, va_up_ne, va_uu, i_ofNat, i_add, i_mul, Nat.add_zero, Nat.zero_add, reduceIte, if_true, if_false, Nat.reduceEqDiff, ne_eq, not_false_eq_true, Nat.reduceEqDiff, not_true_eq_false] at e
          simp (maxDischargeDepth := 9) only [xbind, xlet, xpure, tw_sel, tg_0, tg_4, tg_9, tg_12, tg_13, tg_14, tg_15, tg_16, tg_17, tg_18, tg_19, tg_20, tg_21, tg_24, tr_1, tr_2, tr_3, tr_5, tr_6, tr_7, tr_8, tr_10, tr_11, tr_22, tr_23, tp_0, tp_4, tp_9, tp_12, tp_13, tp_14, tp_15, tp_16, tp_17, tp_18, tp_19, tp_20, tp_21, tp_24, va_up_self, va_up_ne, va_uu, i_ofNat, i_add, i_mul, Nat.add_zero, Nat.zero_add, reduceIte, if_true, if_false, Nat.reduceEqDiff, ne_eq, not_false_eq_true, Nat.reduceEqDiff, not_true_eq_false, e1, fX3_valueOf_p162, ts_7 (show st.length < 1401 by omega), fX3_valueOf_p166]
          simp only [e]
        by_cases c2' : c = 2
        · subst c2'
          simp (maxDischargeDepth := 9) only [pEnv, xbind, xlet, xpure, tw_sel, tg_0, tg_4, tg_9, tg_12, tg_13, tg_14, tg_15, tg_16, tg_17, tg_18, tg_19, tg_20, tg_21, tg_24, tr_1, tr_2, tr_3, tr_5, tr_6, tr_7, tr_8, tr_10, tr_11, tr_22, tr_23, tp_0, tp_4, tp_9, tp_12, tp_13, tp_14, tp_15, tp_16, tp_17, tp_18, tp_19, tp_20, tp_21, tp_24, va_up_self, va_up_ne, va_uu, i_ofNat, i_add, i_mul, Nat.add_zero, Nat.zero_add, reduceIte, if_true, if_false, Nat.reduceEqDiff, ne_eq, not_false_eq_true, Nat.reduceEqDiff, not_true_eq_false] at e
          simp (maxDischargeDepth := 9) only [xbind, xlet, xpure, tw_sel, tg_0, tg_4, tg_9, tg_12, tg_13, tg_14, tg_15, tg_16, tg_17, tg_18, tg_19, tg_20, tg_21, tg_24, tr_1, tr_2, tr_3, tr_5, tr_6, tr_7, tr_8, tr_10, tr_11, tr_22, tr_23, tp_0, tp_4, tp_9, tp_12, tp_13, tp_14, tp_15, tp_16, tp_17, tp_18, tp_19, tp_20, tp_21, tp_24, va_up_self, va_up_ne, va_uu, i_ofNat, i_add, i_mul, Nat.add_zero, Nat.zero_add, reduceIte, if_true, if_false, Nat.reduceEqDiff, ne_eq, not_false_eq_true, Nat.reduceEqDiff, not_true_eq_false, e2, fX3_valueOf_p162, ts_7 (show st.length < 1401 by omega), fX3_valueOf_p166]
          simp only [e]
        by_cases c3' : c = 3
        · subst c3'
          simp (maxDischargeDepth := 9) only [pEnv, xbind, xlet, xpure, tw_sel, tg_0, tg_4, tg_9, tg_12, tg_13, tg_14, tg_15, tg_16, tg_17, tg_18, tg_19, tg_20, tg_21, tg_24, tr_1, tr_2, tr_3, tr_5, tr_6, tr_7, tr_8, tr_10, tr_11, tr_22, tr_23, tp_0, tp_4, tp_9, tp_12, tp_13, tp_14, tp_15, tp_16, tp_17, tp_18, tp_19, tp_20, tp_21, tp_24, va_up_self, va_up_ne, va_uu, i_ofNat, i_add, i_mul, Nat.add_zero, Nat.zero_add, reduceIte, if_true, if_false, Nat.reduceEqDiff, ne_eq, not_false_eq_true, Nat.reduceEqDiff, not_true_eq_false] at e
          simp (maxDischargeDepth := 9) only [xbind, xlet, xpure, tw_sel, tg_0, tg_4, tg_9, tg_12, tg_13, tg_14, tg_15, tg_16, tg_17, tg_18, tg_19, tg_20, tg_21, tg_24, tr_1, tr_2, tr_3, tr_5, tr_6, tr_7, tr_8, tr_10, tr_11, tr_22, tr_23, tp_0, tp_4, tp_9, tp_12, tp_13, tp_14, tp_15, tp_16, tp_17, tp_18, tp_19, tp_20, tp_21, tp_24, va_up_self, va_up_ne, va_uu, i_ofNat, i_add, i_mul, Nat.add_zero, Nat.zero_add, reduceIte, if_true, if_false, Nat.reduceEqDiff, ne_eq, not_false_eq_true, Nat.reduceEqDiff, not_true_eq_false, e3, fX3_valueOf_p162, ts_7 (show st.length < 1401 by omega), fX3_valueOf_p166]
          simp only [e]
        · simp (maxDischargeDepth := 9) only [pEnv, c1', c2', c3', xbind, xlet, xpure, tw_sel, tg_0, tg_4, tg_9, tg_12, tg_13, tg_14, tg_15, tg_16, tg_17, tg_18, tg_19, tg_20, tg_21, tg_24, tr_1, tr_2, tr_3, tr_5, tr_6, tr_7, tr_8, tr_10, tr_11, tr_22, tr_23, tp_0, tp_4, tp_9, tp_12, tp_13, tp_14, tp_15, tp_16, tp_17, tp_18, tp_19, tp_20, tp_21, tp_24, va_up_self, va_up_ne, va_uu, i_ofNat, i_add, i_mul, Nat.add_zero, Nat.zero_add, reduceIte, if_true, if_false, Nat.reduceEqDiff, ne_eq, not_false_eq_true, Nat.reduceEqDiff, not_true_eq_false] at e
          simp (maxDischargeDepth := 9) only [xbind, xlet, xpure, tw_sel, tg_0, tg_4, tg_9, tg_12, tg_13, tg_14, tg_15, tg_16, tg_17, tg_18, tg_19, tg_20, tg_21, tg_24, tr_1, tr_2, tr_3, tr_5, tr_6, tr_7, tr_8, tr_10, tr_11, tr_22, tr_23, tp_0, tp_4, tp_9, tp_12, tp_13, tp_14, tp_15, tp_16, tp_17, tp_18, tp_19, tp_20, tp_21, tp_24, va_up_self, va_up_ne, va_uu, i_ofNat, i_add, i_mul, Nat.add_zero, Nat.zero_add, reduceIte, if_true, if_false, Nat.reduceEqDiff, ne_eq, not_false_eq_true, Nat.reduceEqDiff, not_true_eq_false, c1', c2', c3', tl_1 (show 1 < 592 by omega), fX3_valueOf_p162, ts_7 (show st.length < 1401 by omega), fX3_valueOf_p166]
          simp only [e]
    · rw [if_neg c5] at hv
      have c0 : ¬ c = 0 := by omega
      rw [if_neg c0] at hE hk
      rcases st with _ | ⟨b, _ | ⟨a1, st⟩⟩
      · cases hv
      · cases hv
      · simp only [List.length_cons] at hL
        dsimp only at hv
        obtain ⟨S', e, hS'⟩ := ih (pWork c a1 b :: st) (fl || pFlt c b) (k + 1) fu (va_up I 9 (b2i (fl || pFlt c b))) (va_up S st.length (pWork c a1 b)) st2 fl2 hE (by omega) (pStk_work hS) (by simp; omega) hv (va_up_self _ _ _) (by omega)
        refine ⟨S', ?_, hS'⟩
        have s0 : S (st.length + 1) = b := by have := hS 0 (by simp); simpa using this
        have s1 : S st.length = a1 := by have := hS 1 (by simp); simpa using this
        simp only [List.length_cons] at e ⊢
        have m1 : Int32.ofNat (st.length + 1 + 1) + -Int32.ofNat 1 = Int32.ofNat (st.length + 1) := by rw [i_addneg (by omega)]; rfl
        have m2 : Int32.ofNat (st.length + 1) - Int32.ofNat 1 = Int32.ofNat st.length := by rw [i_sub (by omega)]; rfl
        have ew := t_worked (Γ := Γ) (n := n) (m := m) (I := I) (A := A) (S := S) (h := h) (k := c) (fl := fl) (by omega) hc10 hI a1 b
        simp (maxDischargeDepth := 9) only [xbind, xlet, xpure, tw_sel, tg_0, tg_4, tg_9, tg_12, tg_13, tg_14, tg_15, tg_16, tg_17, tg_18, tg_19, tg_20, tg_21, tg_24, tr_1, tr_2, tr_3, tr_5, tr_6, tr_7, tr_8, tr_10, tr_11, tr_22, tr_23, tp_0, tp_4, tp_9, tp_12, tp_13, tp_14, tp_15, tp_16, tp_17, tp_18, tp_19, tp_20, tp_21, tp_24, va_up_self, va_up_ne, va_uu, i_ofNat, i_add, i_mul, Nat.add_zero, Nat.zero_add, reduceIte, if_true, if_false, Nat.reduceEqDiff, ne_eq, not_false_eq_true, Nat.reduceEqDiff, not_true_eq_false] at e
        simp (maxDischargeDepth := 9) only [xbind, xlet, xpure, tw_sel, tg_0, tg_4, tg_9, tg_12, tg_13, tg_14, tg_15, tg_16, tg_17, tg_18, tg_19, tg_20, tg_21, tg_24, tr_1, tr_2, tr_3, tr_5, tr_6, tr_7, tr_8, tr_10, tr_11, tr_22, tr_23, tp_0, tp_4, tp_9, tp_12, tp_13, tp_14, tp_15, tp_16, tp_17, tp_18, tp_19, tp_20, tp_21, tp_24, va_up_self, va_up_ne, va_uu, i_ofNat, i_add, i_mul, Nat.add_zero, Nat.zero_add, reduceIte, if_true, if_false, Nat.reduceEqDiff, ne_eq, not_false_eq_true, Nat.reduceEqDiff, not_true_eq_false, tl_5 (show fr < 5604 by omega), hl, c1, tl_5 (show fr + k < 5604 by omega), hc, hlt, c5, m1, m2, tl_7 (show st.length + 1 < 1401 by omega), tl_7 (show st.length < 1401 by omega), s0, s1, ew, ts_7 (show st.length < 1401 by omega), fX3_valueOf_p166]
        simp only [e]
end TW7
