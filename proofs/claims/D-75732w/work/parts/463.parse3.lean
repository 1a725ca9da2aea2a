/-! part 463: the twin's parser: signs, numbers, words -/
def tOk (I J : Nat → Int32) (p : Nat) : Prop := J 13 = Int32.ofNat p ∧ ∀ j, j ≠ 13 → j ≠ 14 → J j = I j
def tEr (I J : Nat → Int32) (e : Nat × Nat) : Prop := J 16 = Int32.ofNat e.1 ∧ J 17 = Int32.ofNat e.2 ∧ ∀ j, j ≠ 13 → j ≠ 14 → j ≠ 16 → j ≠ 17 → j ≠ 21 → J j = I j
/-- ready to read at p -/
def tPs (T : Nat → Int32) (len : Nat) (I : Nat → Int32) (A : Nat → Nat → Int32) (p : Nat) : Prop := I 13 = Int32.ofNat p ∧ I 15 = Int32.ofNat len ∧ I 16 = -Int32.ofNat 1 ∧ A 8 = T ∧ p ≤ len ∧ len ≤ 900
theorem tPs.ok {T : Nat → Int32} {len p p' : Nat} {I J : Nat → Int32} {A B : Nat → Nat → Int32} (H : tPs T len I A p) (o : tOk I J p') (h : p' ≤ len) (hB : B 8 = A 8) : tPs T len J B p' := by
  obtain ⟨h1, h2, h3, h4, h5, h6⟩ := H
  exact ⟨o.1, by rw [o.2 15 (by decide) (by decide)]; exact h2, by rw [o.2 16 (by decide) (by decide)]; exact h3, hB.trans h4, h, h6⟩
theorem tOk.trans {I J K : Nat → Int32} {p q : Nat} (a : tOk I J p) (b : tOk J K q) : tOk I K q := ⟨b.1, fun j h1 h2 => (b.2 j h1 h2).trans (a.2 j h1 h2)⟩
theorem tOk.er {I J K : Nat → Int32} {p : Nat} {e : Nat × Nat} (a : tOk I J p) (b : tEr J K e) : tEr I K e := ⟨b.1, b.2.1, fun j h1 h2 h3 h4 h5 => (b.2.2 j h1 h2 h3 h4 h5).trans (a.2 j h1 h2)⟩
theorem tEr.fail {I J : Nat → Int32} {e : Nat × Nat} (a : tEr I J e) (h : e.1 ≤ 900) : ¬ J 16 = -Int32.ofNat 1 := by
  rw [a.1]
  intro q
  have q1 := congrArg Int32.toInt q
  rw [i_toInt (by omega)] at q1
  have q2 : (-Int32.ofNat 1).toInt = -1 := by decide
  omega
section TP4
variable {Γ : Nat → Option Nat} {m n : Nat} {I : Nat → Int32} {A : Nat → Nat → Int32} {S : Nat → Int64} {h : xH} {T : Nat → Int32} {len p : Nat}
theorem t_bl (H : tPs T len I A p) : ∃ J, fX3_blanks m Γ (tw m I A S h) n = some (.inl (), tw m J A S h, 0, 0) ∧ tOk I J (gBl T len p) ∧ J 14 = Int32.ofNat (gBl T len p) := by
  obtain ⟨h1, h2, h3, rfl, h5, h6⟩ := H
  refine ⟨_, t_blanks0 h3 h1 h2 h6 h5, ⟨?_, fun j a b => ?_⟩, ?_⟩
  · rw [va_up_ne _ _ (by decide)]; exact va_up_self _ _ _
  · rw [va_up_ne _ _ b, va_up_ne _ _ a]
  · exact va_up_self _ _ _
theorem t_takesSign {c : Nat} (H : tPs T len I A p) : ∃ J, fX3_takesSign m (Int32.ofNat c) Γ (tw m I A S h) n = some (.inl (b2i (pAt T len (gBl T len p) (Int32.ofNat c) (Int32.ofNat c))), tw m J A S h, 0, 0) ∧ tOk I J (if pAt T len (gBl T len p) (Int32.ofNat c) (Int32.ofNat c) = true then gBl T len p + 1 else gBl T len p) ∧ J 14 = Int32.ofNat (gBl T len p) := by
  obtain ⟨J, e1, o1, b1⟩ := t_bl (Γ := Γ) (n := n) (m := m) (S := S) (h := h) H
  obtain ⟨h1, h2, h3, rfl, h5, h6⟩ := H
  have q1 := gBl_le (T := A 8) h5
  have f1 : J 16 = -Int32.ofNat 1 := by rw [o1.2 16 (by decide) (by decide)]; exact h3
  have f2 : J 15 = Int32.ofNat len := by rw [o1.2 15 (by decide) (by decide)]; exact h2
  have e2 := t_hasFailed0 (Γ := Γ) (n := n) (m := m) (A := A) (S := S) (h := h) f1
  have e3 := t_isAt (Γ := Γ) (n := n) (m := m) (A := A) (S := S) (h := h) (lo := Int32.ofNat c) (hi := Int32.ofNat c) o1.1 f2 h6 (by omega)
  have d1 : ¬ Int32.ofNat 1 = Int32.ofNat 0 := by decide
  cases hc : pAt (A 8) len (gBl (A 8) len p) (Int32.ofNat c) (Int32.ofNat c) with
  | false =>
    rw [hc, b2i_f] at e3
    refine ⟨J, ?_, ?_, b1⟩
    · simp (maxDischargeDepth := 9) only [fX3_takesSign, fX3_takesSign_p24, fX3_takesSign_p25, xbind, xlet, xpure, tw_sel, tg_0, tg_4, tg_9, tg_12, tg_13, tg_14, tg_15, tg_16, tg_17, tg_18, tg_19, tg_20, tg_21, tg_24, tr_1, tr_2, tr_3, tr_5, tr_6, tr_7, tr_8, tr_10, tr_11, tr_22, tr_23, tp_0, tp_4, tp_9, tp_12, tp_13, tp_14, tp_15, tp_16, tp_17, tp_18, tp_19, tp_20, tp_21, tp_24, va_up_self, va_up_ne, va_uu, i_ofNat, i_add, i_mul, Nat.add_zero, Nat.zero_add, reduceIte, if_true, if_false, Nat.reduceEqDiff, ne_eq, not_false_eq_true, Nat.reduceEqDiff, not_true_eq_false, e1, e2, e3, x_ret0, b2i_f]
    · rw [if_neg (by decide)]; exact o1
  | true =>
    rw [hc, b2i_t] at e3
    have v1 := o1.1
    refine ⟨va_up J 13 (Int32.ofNat (gBl (A 8) len p + 1)), ?_, ⟨?_, fun j a b => ?_⟩, ?_⟩
    · simp (maxDischargeDepth := 9) only [fX3_takesSign, fX3_takesSign_p25, xbind, xlet, xpure, tw_sel, tg_0, tg_4, tg_9, tg_12, tg_13, tg_14, tg_15, tg_16, tg_17, tg_18, tg_19, tg_20, tg_21, tg_24, tr_1, tr_2, tr_3, tr_5, tr_6, tr_7, tr_8, tr_10, tr_11, tr_22, tr_23, tp_0, tp_4, tp_9, tp_12, tp_13, tp_14, tp_15, tp_16, tp_17, tp_18, tp_19, tp_20, tp_21, tp_24, va_up_self, va_up_ne, va_uu, i_ofNat, i_add, i_mul, Nat.add_zero, Nat.zero_add, reduceIte, if_true, if_false, Nat.reduceEqDiff, ne_eq, not_false_eq_true, Nat.reduceEqDiff, not_true_eq_false, e1, e2, e3, d1, v1, x_ret1, b2i_t]
    · rw [if_pos rfl]; exact va_up_self _ _ _
    · rw [va_up_ne _ _ a]; exact o1.2 j a b
    · rw [va_up_ne _ _ (by decide)]; exact b1
theorem t_takesSignF {c : Int32} (hf : ¬ I 16 = -Int32.ofNat 1) : fX3_takesSign m c Γ (tw m I A S h) n = some (.inl (Int32.ofNat 0), tw m I A S h, 0, 0) := by
  have e0 := t_blanks1 (Γ := Γ) (n := n) (m := m) (A := A) (S := S) (h := h) hf
  have e1 := t_hasFailed1 (Γ := Γ) (n := n) (m := m) (A := A) (S := S) (h := h) hf
  have d1 : ¬ Int32.ofNat 1 = Int32.ofNat 0 := by decide
  simp (maxDischargeDepth := 9) only [fX3_takesSign, fX3_takesSign_p24, fX3_takesSign_p25, xbind, xlet, xpure, tw_sel, tg_0, tg_4, tg_9, tg_12, tg_13, tg_14, tg_15, tg_16, tg_17, tg_18, tg_19, tg_20, tg_21, tg_24, tr_1, tr_2, tr_3, tr_5, tr_6, tr_7, tr_8, tr_10, tr_11, tr_22, tr_23, tp_0, tp_4, tp_9, tp_12, tp_13, tp_14, tp_15, tp_16, tp_17, tp_18, tp_19, tp_20, tp_21, tp_24, va_up_self, va_up_ne, va_uu, i_ofNat, i_add, i_mul, Nat.add_zero, Nat.zero_add, reduceIte, if_true, if_false, Nat.reduceEqDiff, ne_eq, not_false_eq_true, Nat.reduceEqDiff, not_true_eq_false, e0, e1, d1, x_ret0]
theorem t_needsF {c : Int32} (hf : ¬ I 16 = -Int32.ofNat 1) : fX3_needs m c Γ (tw m I A S h) n = some (.inl (), tw m I A S h, 0, 0) := by
  have e0 := t_takesSignF (Γ := Γ) (n := n) (m := m) (A := A) (S := S) (h := h) (c := c) hf
  have e1 := t_mustF (Γ := Γ) (n := n) (m := m) (A := A) (S := S) (h := h) (b := Int32.ofNat 0) (k := Int32.ofNat 1) hf
  simp (maxDischargeDepth := 9) only [fX3_needs, xbind, xlet, xpure, tw_sel, tg_0, tg_4, tg_9, tg_12, tg_13, tg_14, tg_15, tg_16, tg_17, tg_18, tg_19, tg_20, tg_21, tg_24, tr_1, tr_2, tr_3, tr_5, tr_6, tr_7, tr_8, tr_10, tr_11, tr_22, tr_23, tp_0, tp_4, tp_9, tp_12, tp_13, tp_14, tp_15, tp_16, tp_17, tp_18, tp_19, tp_20, tp_21, tp_24, va_up_self, va_up_ne, va_uu, i_ofNat, i_add, i_mul, Nat.add_zero, Nat.zero_add, reduceIte, if_true, if_false, Nat.reduceEqDiff, ne_eq, not_false_eq_true, Nat.reduceEqDiff, not_true_eq_false, e0, e1]
theorem t_needs1 {c p' : Nat} (H : tPs T len I A p) (hg : gSg T len c p = .inr p') : ∃ J, fX3_needs m (Int32.ofNat c) Γ (tw m I A S h) n = some (.inl (), tw m J A S h, 0, 0) ∧ tOk I J p' := by
  obtain ⟨J, e1, o1, b1⟩ := t_takesSign (Γ := Γ) (n := n) (m := m) (S := S) (h := h) (c := c) H
  unfold gSg at hg
  cases hc : pAt T len (gBl T len p) (Int32.ofNat c) (Int32.ofNat c) with
  | false => rw [hc, if_neg (by decide)] at hg; cases hg
  | true =>
    rw [hc, if_pos rfl] at hg o1
    cases hg
    rw [hc, b2i_t] at e1
    have e2 := t_must1 (Γ := Γ) (n := n) (m := m) (I := J) (A := A) (S := S) (h := h) (k := Int32.ofNat 1)
    refine ⟨J, ?_, o1⟩
    simp (maxDischargeDepth := 9) only [fX3_needs, xbind, xlet, xpure, tw_sel, tg_0, tg_4, tg_9, tg_12, tg_13, tg_14, tg_15, tg_16, tg_17, tg_18, tg_19, tg_20, tg_21, tg_24, tr_1, tr_2, tr_3, tr_5, tr_6, tr_7, tr_8, tr_10, tr_11, tr_22, tr_23, tp_0, tp_4, tp_9, tp_12, tp_13, tp_14, tp_15, tp_16, tp_17, tp_18, tp_19, tp_20, tp_21, tp_24, va_up_self, va_up_ne, va_uu, i_ofNat, i_add, i_mul, Nat.add_zero, Nat.zero_add, reduceIte, if_true, if_false, Nat.reduceEqDiff, ne_eq, not_false_eq_true, Nat.reduceEqDiff, not_true_eq_false, e1, e2]
theorem t_must0e {J : Nat → Int32} {q k : Nat} (hf : J 16 = -Int32.ofNat 1) (hb : J 14 = Int32.ofNat q) : ∃ K, fX3_must m (Int32.ofNat 0) (Int32.ofNat k) Γ (tw m J A S h) n = some (.inl (), tw m K A S h, 0, 0) ∧ tEr J K (q, k) := by
  refine ⟨_, t_must0 hf, ?_, ?_, fun j a b c d e => ?_⟩
  · rw [va_up_ne _ _ (by decide), va_up_self]; exact hb
  · exact va_up_self _ _ _
  · rw [va_up_ne _ _ d, va_up_ne _ _ c]
theorem t_needs0 {c : Nat} {e : Nat × Nat} (H : tPs T len I A p) (hg : gSg T len c p = .inl e) : ∃ J, fX3_needs m (Int32.ofNat c) Γ (tw m I A S h) n = some (.inl (), tw m J A S h, 0, 0) ∧ tEr I J e := by
  obtain ⟨J, e1, o1, b1⟩ := t_takesSign (Γ := Γ) (n := n) (m := m) (S := S) (h := h) (c := c) H
  unfold gSg at hg
  cases hc : pAt T len (gBl T len p) (Int32.ofNat c) (Int32.ofNat c) with
  | true => rw [hc, if_pos rfl] at hg; cases hg
  | false =>
    rw [hc, if_neg (by decide)] at hg o1
    cases hg
    rw [hc, b2i_f] at e1
    obtain ⟨K, e2, o2⟩ := t_must0e (Γ := Γ) (n := n) (m := m) (A := A) (S := S) (h := h) (k := 1) (by rw [o1.2 16 (by decide) (by decide)]; exact H.2.2.1) b1
    refine ⟨K, ?_, o1.er o2⟩
    simp (maxDischargeDepth := 9) only [fX3_needs, xbind, xlet, xpure, tw_sel, tg_0, tg_4, tg_9, tg_12, tg_13, tg_14, tg_15, tg_16, tg_17, tg_18, tg_19, tg_20, tg_21, tg_24, tr_1, tr_2, tr_3, tr_5, tr_6, tr_7, tr_8, tr_10, tr_11, tr_22, tr_23, tp_0, tp_4, tp_9, tp_12, tp_13, tp_14, tp_15, tp_16, tp_17, tp_18, tp_19, tp_20, tp_21, tp_24, va_up_self, va_up_ne, va_uu, i_ofNat, i_add, i_mul, Nat.add_zero, Nat.zero_add, reduceIte, if_true, if_false, Nat.reduceEqDiff, ne_eq, not_false_eq_true, Nat.reduceEqDiff, not_true_eq_false, e1, e2]
/-! numbers -/
theorem pDV_lt (T : Nat → Int32) (len b : Nat) : ∀ (k p v : Nat), v < 10 ^ (min (p - b) 6) → b ≤ p → pDV T len b k p v < 1000000 := by
  intro k
  induction k with
  | zero =>
    intro p v hv hb
    have : 10 ^ (min (p - b) 6) ≤ 10 ^ 6 := Nat.pow_le_pow_right (by decide) (by omega)
    unfold pDV
    have : (10 : Nat) ^ 6 = 1000000 := by decide
    omega
  | succ k ih =>
    intro p v hv hb
    unfold pDV
    split
    · rename_i hc
      obtain ⟨-, c, hc1, hc2, hc3⟩ := pAt_val hc (by decide) (by decide)
      refine ih (p + 1) _ ?_ (by omega)
      split
      · rename_i h6
        have e1 : min (p + 1 - b) 6 = min (p - b) 6 + 1 := by omega
        rw [e1, Nat.pow_succ, hc1, nn_of (by omega)]
        omega
      · rename_i h6
        have e1 : min (p + 1 - b) 6 = min (p - b) 6 := by omega
        rw [e1]
        exact hv
    · have : 10 ^ (min (p - b) 6) ≤ 10 ^ 6 := Nat.pow_le_pow_right (by decide) (by omega)
      have : (10 : Nat) ^ 6 = 1000000 := by decide
      omega
theorem t_number_p28 {lo hi b : Nat} (hlo : lo < 2147483648) (hhi : hi < 2147483648) (hI : I 15 = Int32.ofNat len) (hf : I 16 = -Int32.ofNat 1) (hb : I 14 = Int32.ofNat b) (hT : A 8 = T) (h9 : len ≤ 900) : ∀ (k p v fu : Nat), p + k = len → b ≤ p → k < fu → v < 10 ^ (min (p - b) 6) →
    ∃ J, fX3_number_p28 fu m (Int32.ofNat lo) (Int32.ofNat hi) (Int32.ofNat v) Γ (tw m (va_up I 13 (Int32.ofNat p)) A S h) n = some (.inl (if pDE T len k p - b ≤ 6 ∧ lo ≤ pDV T len b k p v ∧ pDV T len b k p v ≤ hi then Int32.ofNat (pDV T len b k p v) else Int32.ofNat lo), tw m J A S h, 0, 0) ∧ (if pDE T len k p - b ≤ 6 ∧ lo ≤ pDV T len b k p v ∧ pDV T len b k p v ≤ hi then tOk I J (pDE T len k p) else tEr I J (b, 2)) := by
  subst hT
  have d1 : ¬ Int32.ofNat 1 = Int32.ofNat 0 := by decide
  have stop : ∀ (p v fu : Nat), p ≤ len → b ≤ p → pAt (A 8) len p (Int32.ofNat 48) (Int32.ofNat 57) = false → v < 1000000 → ∃ J, fX3_number_p28 (fu + 1) m (Int32.ofNat lo) (Int32.ofNat hi) (Int32.ofNat v) Γ (tw m (va_up I 13 (Int32.ofNat p)) A S h) n = some (.inl (if p - b ≤ 6 ∧ lo ≤ v ∧ v ≤ hi then Int32.ofNat v else Int32.ofNat lo), tw m J A S h, 0, 0) ∧ (if p - b ≤ 6 ∧ lo ≤ v ∧ v ≤ hi then tOk I J p else tEr I J (b, 2)) := by
    intro p v fu hp hbp hc hv
    have e1 := t_isAt (Γ := Γ) (n := n) (m := m) (I := va_up I 13 (Int32.ofNat p)) (A := A) (S := S) (h := h) (p := p) (len := len) (lo := Int32.ofNat 48) (hi := Int32.ofNat 57) (va_up_self _ _ _) (by rw [va_up_ne _ _ (by omega)]; exact hI) h9 (by omega)
    rw [hc, b2i_f] at e1
    have f16 : va_up I 13 (Int32.ofNat p) 16 = -Int32.ofNat 1 := by rw [va_up_ne _ _ (by omega)]; exact hf
    have f14 : va_up I 13 (Int32.ofNat p) 14 = Int32.ofNat b := by rw [va_up_ne _ _ (by omega)]; exact hb
    have ok0 : tOk I (va_up I 13 (Int32.ofNat p)) p := ⟨va_up_self _ _ _, fun j a _ => va_up_ne _ _ a⟩
    have e2 := t_must1 (Γ := Γ) (n := n) (m := m) (I := va_up I 13 (Int32.ofNat p)) (A := A) (S := S) (h := h) (k := Int32.ofNat 2)
    have e3 := t_hasFailed0 (Γ := Γ) (n := n) (m := m) (A := A) (S := S) (h := h) f16
    obtain ⟨K, e4, o4⟩ := t_must0e (Γ := Γ) (n := n) (m := m) (A := A) (S := S) (h := h) (k := 2) f16 f14
    have e5 := t_hasFailed1 (Γ := Γ) (n := n) (m := m) (A := A) (S := S) (h := h) (o4.fail (by omega))
    have sb : Int32.ofNat p - Int32.ofNat b = Int32.ofNat (p - b) := i_sub hbp
    by_cases c6 : p - b ≤ 6
    · have l6 : ¬ Int32.ofNat 6 < Int32.ofNat (p - b) := by rw [i_lt (by omega) (by omega)]; omega
      by_cases c7 : lo ≤ v ∧ v ≤ hi
      · have e6 := t_in1 (Γ := Γ) (h := tw m (va_up I 13 (Int32.ofNat p)) A S h) (n := n) (a := (Int32.ofNat v).toInt64) (b := (Int32.ofNat lo).toInt64) (c := (Int32.ofNat hi).toInt64) (by rw [Int32.toInt_toInt64, Int32.toInt_toInt64, i_toInt (by omega), i_toInt (by omega)]; omega) (by rw [Int32.toInt_toInt64, Int32.toInt_toInt64, i_toInt (by omega), i_toInt (by omega)]; omega)
        refine ⟨va_up I 13 (Int32.ofNat p), ?_, ?_⟩
        · rw [if_pos ⟨c6, c7⟩, fX3_number_p28]
          simp (maxDischargeDepth := 9) only [xbind, xlet, xpure, tw_sel, tg_0, tg_4, tg_9, tg_12, tg_13, tg_14, tg_15, tg_16, tg_17, tg_18, tg_19, tg_20, tg_21, tg_24, tr_1, tr_2, tr_3, tr_5, tr_6, tr_7, tr_8, tr_10, tr_11, tr_22, tr_23, tp_0, tp_4, tp_9, tp_12, tp_13, tp_14, tp_15, tp_16, tp_17, tp_18, tp_19, tp_20, tp_21, tp_24, va_up_self, va_up_ne, va_uu, i_ofNat, i_add, i_mul, Nat.add_zero, Nat.zero_add, reduceIte, if_true, if_false, Nat.reduceEqDiff, ne_eq, not_false_eq_true, Nat.reduceEqDiff, not_true_eq_false, e1, hb, sb, l6, e6, d1, fX3_number_p116, e2, e3]
        · rw [if_pos ⟨c6, c7⟩]
          exact ok0
      · have e6 := t_in0 (Γ := Γ) (h := tw m (va_up I 13 (Int32.ofNat p)) A S h) (n := n) (a := (Int32.ofNat v).toInt64) (b := (Int32.ofNat lo).toInt64) (c := (Int32.ofNat hi).toInt64) (by rw [Int32.toInt_toInt64, Int32.toInt_toInt64, Int32.toInt_toInt64, i_toInt (by omega), i_toInt (by omega), i_toInt (by omega)]; omega)
        refine ⟨K, ?_, ?_⟩
        · rw [if_neg (fun q => c7 q.2), fX3_number_p28]
          simp (maxDischargeDepth := 9) only [xbind, xlet, xpure, tw_sel, tg_0, tg_4, tg_9, tg_12, tg_13, tg_14, tg_15, tg_16, tg_17, tg_18, tg_19, tg_20, tg_21, tg_24, tr_1, tr_2, tr_3, tr_5, tr_6, tr_7, tr_8, tr_10, tr_11, tr_22, tr_23, tp_0, tp_4, tp_9, tp_12, tp_13, tp_14, tp_15, tp_16, tp_17, tp_18, tp_19, tp_20, tp_21, tp_24, va_up_self, va_up_ne, va_uu, i_ofNat, i_add, i_mul, Nat.add_zero, Nat.zero_add, reduceIte, if_true, if_false, Nat.reduceEqDiff, ne_eq, not_false_eq_true, Nat.reduceEqDiff, not_true_eq_false, e1, hb, sb, l6, e6, d1, fX3_number_p115, fX3_number_p116, e4, e5]
        · rw [if_neg (fun q => c7 q.2)]
          exact ok0.er o4
    · have l6 : Int32.ofNat 6 < Int32.ofNat (p - b) := by rw [i_lt (by omega) (by omega)]; omega
      refine ⟨K, ?_, ?_⟩
      · rw [if_neg (fun q => c6 q.1), fX3_number_p28]
        simp (maxDischargeDepth := 9) only [xbind, xlet, xpure, tw_sel, tg_0, tg_4, tg_9, tg_12, tg_13, tg_14, tg_15, tg_16, tg_17, tg_18, tg_19, tg_20, tg_21, tg_24, tr_1, tr_2, tr_3, tr_5, tr_6, tr_7, tr_8, tr_10, tr_11, tr_22, tr_23, tp_0, tp_4, tp_9, tp_12, tp_13, tp_14, tp_15, tp_16, tp_17, tp_18, tp_19, tp_20, tp_21, tp_24, va_up_self, va_up_ne, va_uu, i_ofNat, i_add, i_mul, Nat.add_zero, Nat.zero_add, reduceIte, if_true, if_false, Nat.reduceEqDiff, ne_eq, not_false_eq_true, Nat.reduceEqDiff, not_true_eq_false, e1, hb, sb, l6, d1, fX3_number_p115, fX3_number_p116, e4, e5]
      · rw [if_neg (fun q => c6 q.1)]
        exact ok0.er o4
  have hv6 : ∀ p v : Nat, v < 10 ^ (min (p - b) 6) → v < 1000000 := by
    intro p v hv
    have : 10 ^ (min (p - b) 6) ≤ 10 ^ 6 := Nat.pow_le_pow_right (by decide) (by omega)
    have : (10 : Nat) ^ 6 = 1000000 := by decide
    omega
  intro k
  induction k with
  | zero =>
    intro p v fu hp hbp hfu hv
    obtain ⟨fu, rfl⟩ : ∃ g, fu = g + 1 := ⟨fu - 1, by omega⟩
    unfold pDE pDV
    refine stop p v fu (by omega) hbp ?_ (hv6 p v hv)
    rw [← Bool.not_eq_true, pAt_iff]
    omega
  | succ k ih =>
    intro p v fu hp hbp hfu hv
    obtain ⟨fu, rfl⟩ : ∃ g, fu = g + 1 := ⟨fu - 1, by omega⟩
    cases hc : pAt (A 8) len p (Int32.ofNat 48) (Int32.ofNat 57) with
    | false =>
      have u1 : pDE (A 8) len (k + 1) p = p := by rw [pDE, if_neg (by rw [hc]; decide)]
      have u2 : pDV (A 8) len b (k + 1) p v = v := by rw [pDV, if_neg (by rw [hc]; decide)]
      rw [u1, u2]
      exact stop p v fu (by omega) hbp hc (hv6 p v hv)
    | true =>
      have e1 := t_isAt (Γ := Γ) (n := n) (m := m) (I := va_up I 13 (Int32.ofNat p)) (A := A) (S := S) (h := h) (p := p) (len := len) (lo := Int32.ofNat 48) (hi := Int32.ofNat 57) (va_up_self _ _ _) (by rw [va_up_ne _ _ (by omega)]; exact hI) h9 (by omega)
      rw [hc, b2i_t] at e1
      obtain ⟨-, c, hc1, hc2, hc3⟩ := pAt_val hc (by decide) (by decide)
      have f14 : va_up I 13 (Int32.ofNat p) 14 = Int32.ofNat b := by rw [va_up_ne _ _ (by omega)]; exact hb
      have sb : Int32.ofNat p - Int32.ofNat b = Int32.ofNat (p - b) := i_sub hbp
      have u13 : va_up (va_up I 13 (Int32.ofNat p)) 13 (Int32.ofNat (p + 1)) = va_up I 13 (Int32.ofNat (p + 1)) := va_uu _ _ _ _
      have u1 : pDE (A 8) len (k + 1) p = pDE (A 8) len k (p + 1) := by rw [pDE, if_pos hc]
      by_cases c6 : p - b < 6
      · have l6 : ¬ Int32.ofNat 6 ≤ Int32.ofNat (p - b) := by rw [i_le (by omega) (by omega)]; omega
        have e10 : min (p + 1 - b) 6 = min (p - b) 6 + 1 := by omega
        have vv : Int32.ofNat (10 * v) + A 8 p - Int32.ofNat 48 = Int32.ofNat (10 * v + (nn (A 8 p) - 48)) := by
          rw [hc1, nn_of (by omega), i_add, i_sub (by omega)]
          congr 1
          omega
        have u2 : pDV (A 8) len b (k + 1) p v = pDV (A 8) len b k (p + 1) (10 * v + (nn (A 8 p) - 48)) := by rw [pDV, if_pos hc, if_pos c6]
        obtain ⟨J, e2, o2⟩ := ih (p + 1) (10 * v + (nn (A 8 p) - 48)) fu (by omega) (by omega) (by omega) (by rw [e10, Nat.pow_succ, hc1, nn_of (by omega)]; omega)
        rw [u1, u2]
        refine ⟨J, ?_, o2⟩
        rw [fX3_number_p28]
        simp (maxDischargeDepth := 9) only [xbind, xlet, xpure, tw_sel, tg_0, tg_4, tg_9, tg_12, tg_13, tg_14, tg_15, tg_16, tg_17, tg_18, tg_19, tg_20, tg_21, tg_24, tr_1, tr_2, tr_3, tr_5, tr_6, tr_7, tr_8, tr_10, tr_11, tr_22, tr_23, tp_0, tp_4, tp_9, tp_12, tp_13, tp_14, tp_15, tp_16, tp_17, tp_18, tp_19, tp_20, tp_21, tp_24, va_up_self, va_up_ne, va_uu, i_ofNat, i_add, i_mul, Nat.add_zero, Nat.zero_add, reduceIte, if_true, if_false, Nat.reduceEqDiff, ne_eq, not_false_eq_true, Nat.reduceEqDiff, not_true_eq_false, e1, hb, sb, l6, d1, fX3_number_p71, tl_8 (show p < 900 by omega), vv, u13, e2]
      · have l6 : Int32.ofNat 6 ≤ Int32.ofNat (p - b) := by rw [i_le (by omega) (by omega)]; omega
        have e10 : min (p + 1 - b) 6 = min (p - b) 6 := by omega
        have u2 : pDV (A 8) len b (k + 1) p v = pDV (A 8) len b k (p + 1) v := by rw [pDV, if_pos hc, if_neg c6]
        obtain ⟨J, e2, o2⟩ := ih (p + 1) v fu (by omega) (by omega) (by omega) (by rw [e10]; exact hv)
        rw [u1, u2]
        refine ⟨J, ?_, o2⟩
        rw [fX3_number_p28]
        simp (maxDischargeDepth := 9) only [xbind, xlet, xpure, tw_sel, tg_0, tg_4, tg_9, tg_12, tg_13, tg_14, tg_15, tg_16, tg_17, tg_18, tg_19, tg_20, tg_21, tg_24, tr_1, tr_2, tr_3, tr_5, tr_6, tr_7, tr_8, tr_10, tr_11, tr_22, tr_23, tp_0, tp_4, tp_9, tp_12, tp_13, tp_14, tp_15, tp_16, tp_17, tp_18, tp_19, tp_20, tp_21, tp_24, va_up_self, va_up_ne, va_uu, i_ofNat, i_add, i_mul, Nat.add_zero, Nat.zero_add, reduceIte, if_true, if_false, Nat.reduceEqDiff, ne_eq, not_false_eq_true, Nat.reduceEqDiff, not_true_eq_false, e1, hb, sb, l6, d1, fX3_number_p71, u13, e2]
theorem t_number {lo hi : Nat} (hlo : lo < 2147483648) (hhi : hi < 2147483648) (H : tPs T len I A p) : ∃ J, fX3_number m (Int32.ofNat lo) (Int32.ofNat hi) Γ (tw m I A S h) n = some (.inl (match gNum T len lo hi p with
  | .inl _ => Int32.ofNat lo
  | .inr r => Int32.ofNat r.1), tw m J A S h, 0, 0) ∧ (match gNum T len lo hi p with
  | .inl e => tEr I J e
  | .inr r => tOk I J r.2) := by
  obtain ⟨J, e1, o1, b1⟩ := t_bl (Γ := Γ) (n := n) (m := m) (S := S) (h := h) H
  obtain ⟨h1, h2, h3, rfl, h5, h6⟩ := H
  have q1 := gBl_le (T := A 8) h5
  have f1 : J 16 = -Int32.ofNat 1 := by rw [o1.2 16 (by decide) (by decide)]; exact h3
  have f2 : J 15 = Int32.ofNat len := by rw [o1.2 15 (by decide) (by decide)]; exact h2
  have e2 := t_hasFailed0 (Γ := Γ) (n := n) (m := m) (A := A) (S := S) (h := h) f1
  have e3 := t_isAt (Γ := Γ) (n := n) (m := m) (A := A) (S := S) (h := h) (lo := Int32.ofNat 48) (hi := Int32.ofNat 57) o1.1 f2 h6 (by omega)
  have d1 : ¬ Int32.ofNat 1 = Int32.ofNat 0 := by decide
  unfold gNum
  cases hc : pAt (A 8) len (gBl (A 8) len p) (Int32.ofNat 48) (Int32.ofNat 57) with
  | false =>
    rw [hc, b2i_f] at e3
    obtain ⟨K, e4, o4⟩ := t_must0e (Γ := Γ) (n := n) (m := m) (A := A) (S := S) (h := h) (k := 1) f1 b1
    have e5 := t_hasFailed1 (Γ := Γ) (n := n) (m := m) (A := A) (S := S) (h := h) (o4.fail (by omega))
    refine ⟨K, ?_, o1.er o4⟩
    simp (maxDischargeDepth := 9) only [fX3_number, xbind, xlet, xpure, tw_sel, tg_0, tg_4, tg_9, tg_12, tg_13, tg_14, tg_15, tg_16, tg_17, tg_18, tg_19, tg_20, tg_21, tg_24, tr_1, tr_2, tr_3, tr_5, tr_6, tr_7, tr_8, tr_10, tr_11, tr_22, tr_23, tp_0, tp_4, tp_9, tp_12, tp_13, tp_14, tp_15, tp_16, tp_17, tp_18, tp_19, tp_20, tp_21, tp_24, va_up_self, va_up_ne, va_uu, i_ofNat, i_add, i_mul, Nat.add_zero, Nat.zero_add, reduceIte, if_true, if_false, Nat.reduceEqDiff, ne_eq, not_false_eq_true, Nat.reduceEqDiff, not_true_eq_false, e1, e3, e4, e5, d1, Bool.false_eq_true]
  | true =>
    rw [hc, b2i_t] at e3
    have e4 := t_must1 (Γ := Γ) (n := n) (m := m) (I := J) (A := A) (S := S) (h := h) (k := Int32.ofNat 1)
    obtain ⟨K, e5, o5⟩ := t_number_p28 (Γ := Γ) (n := n) (m := m) (A := A) (S := S) (h := h) hlo hhi f2 f1 b1 rfl h6 (len - gBl (A 8) len p) (gBl (A 8) len p) 0 xFU (by omega) (Nat.le_refl _) (by unfold xFU; omega) (Nat.pow_pos (by decide))
    have hJ : va_up J 13 (Int32.ofNat (gBl (A 8) len p)) = J := by rw [← o1.1, va_id]
    rw [hJ] at e5
    have fin : fX3_number m (Int32.ofNat lo) (Int32.ofNat hi) Γ (tw m I A S h) n = fX3_number_p28 xFU m (Int32.ofNat lo) (Int32.ofNat hi) (Int32.ofNat 0) Γ (tw m J A S h) n := by
      simp (maxDischargeDepth := 9) only [fX3_number, xbind, xlet, xpure, tw_sel, tg_0, tg_4, tg_9, tg_12, tg_13, tg_14, tg_15, tg_16, tg_17, tg_18, tg_19, tg_20, tg_21, tg_24, tr_1, tr_2, tr_3, tr_5, tr_6, tr_7, tr_8, tr_10, tr_11, tr_22, tr_23, tp_0, tp_4, tp_9, tp_12, tp_13, tp_14, tp_15, tp_16, tp_17, tp_18, tp_19, tp_20, tp_21, tp_24, va_up_self, va_up_ne, va_uu, i_ofNat, i_add, i_mul, Nat.add_zero, Nat.zero_add, reduceIte, if_true, if_false, Nat.reduceEqDiff, ne_eq, not_false_eq_true, Nat.reduceEqDiff, not_true_eq_false, e1, e3, e4, e2]
      cases fX3_number_p28 xFU m (Int32.ofNat lo) (Int32.ofNat hi) (Int32.ofNat 0) Γ (tw m J A S h) n <;> rfl
    rw [fin, e5]
    rw [if_pos rfl]
    by_cases hh : pDE (A 8) len (len - gBl (A 8) len p) (gBl (A 8) len p) - gBl (A 8) len p ≤ 6 ∧ lo ≤ pDV (A 8) len (gBl (A 8) len p) (len - gBl (A 8) len p) (gBl (A 8) len p) 0 ∧ pDV (A 8) len (gBl (A 8) len p) (len - gBl (A 8) len p) (gBl (A 8) len p) 0 ≤ hi
    · rw [if_pos hh] at o5
      rw [if_pos hh, if_pos hh]
      exact ⟨K, rfl, o1.trans o5⟩
    · rw [if_neg hh] at o5
      rw [if_neg hh, if_neg hh]
      exact ⟨K, rfl, o1.er o5⟩
theorem t_wordHere_p9 {q : Nat} (hI : I 15 = Int32.ofNat len) (hq : I 13 = Int32.ofNat q) (hT : A 8 = T) (h9 : len ≤ 900) : ∀ (k x fu : Nat), x + k = len → q ≤ x → k < fu →
    fX3_wordHere_p9 fu m (Int32.ofNat x) Γ (tw m I A S h) n = some (.inl (Int32.ofNat (pWE T len k x - q)), tw m I A S h, 0, 0) := by
  subst hT
  have stop : ∀ x, q ≤ x → fX3_wordHere_p45 m (Int32.ofNat x) Γ (tw m I A S h) n = some (.inl (Int32.ofNat (x - q)), tw m I A S h, 0, 0) := by
    intro x hx
    have := i_sub hx
    simp (maxDischargeDepth := 9) only [fX3_wordHere_p45, xbind, xlet, xpure, tw_sel, tg_0, tg_4, tg_9, tg_12, tg_13, tg_14, tg_15, tg_16, tg_17, tg_18, tg_19, tg_20, tg_21, tg_24, tr_1, tr_2, tr_3, tr_5, tr_6, tr_7, tr_8, tr_10, tr_11, tr_22, tr_23, tp_0, tp_4, tp_9, tp_12, tp_13, tp_14, tp_15, tp_16, tp_17, tp_18, tp_19, tp_20, tp_21, tp_24, va_up_self, va_up_ne, va_uu, i_ofNat, i_add, i_mul, Nat.add_zero, Nat.zero_add, reduceIte, if_true, if_false, Nat.reduceEqDiff, ne_eq, not_false_eq_true, Nat.reduceEqDiff, not_true_eq_false, hq, this]
  intro k
  induction k with
  | zero =>
    intro x fu hx hqx hf
    obtain ⟨fu, rfl⟩ : ∃ g, fu = g + 1 := ⟨fu - 1, by omega⟩
    have c1 : Int32.ofNat len ≤ Int32.ofNat x := by rw [i_le (by omega) (by omega)]; omega
    rw [fX3_wordHere_p9, pWE]
    simp (maxDischargeDepth := 9) only [xbind, xlet, xpure, tw_sel, tg_0, tg_4, tg_9, tg_12, tg_13, tg_14, tg_15, tg_16, tg_17, tg_18, tg_19, tg_20, tg_21, tg_24, tr_1, tr_2, tr_3, tr_5, tr_6, tr_7, tr_8, tr_10, tr_11, tr_22, tr_23, tp_0, tp_4, tp_9, tp_12, tp_13, tp_14, tp_15, tp_16, tp_17, tp_18, tp_19, tp_20, tp_21, tp_24, va_up_self, va_up_ne, va_uu, i_ofNat, i_add, i_mul, Nat.add_zero, Nat.zero_add, reduceIte, if_true, if_false, Nat.reduceEqDiff, ne_eq, not_false_eq_true, Nat.reduceEqDiff, not_true_eq_false, hI, c1, stop x hqx]
  | succ k ih =>
    intro x fu hx hqx hf
    obtain ⟨fu, rfl⟩ : ∃ g, fu = g + 1 := ⟨fu - 1, by omega⟩
    have c1 : ¬ Int32.ofNat len ≤ Int32.ofNat x := by rw [i_le (by omega) (by omega)]; omega
    have hxl : x < len := by omega
    rw [fX3_wordHere_p9, pWE]
    by_cases c2 : A 8 x < Int32.ofNat 97
    · have hn : ¬ pAt (A 8) len x (Int32.ofNat 97) (Int32.ofNat 122) = true := by rw [pAt_iff]; exact fun z => absurd z.2.1 (Int32.not_le.mpr c2)
      rw [if_neg hn]
      simp (maxDischargeDepth := 9) only [xbind, xlet, xpure, tw_sel, tg_0, tg_4, tg_9, tg_12, tg_13, tg_14, tg_15, tg_16, tg_17, tg_18, tg_19, tg_20, tg_21, tg_24, tr_1, tr_2, tr_3, tr_5, tr_6, tr_7, tr_8, tr_10, tr_11, tr_22, tr_23, tp_0, tp_4, tp_9, tp_12, tp_13, tp_14, tp_15, tp_16, tp_17, tp_18, tp_19, tp_20, tp_21, tp_24, va_up_self, va_up_ne, va_uu, i_ofNat, i_add, i_mul, Nat.add_zero, Nat.zero_add, reduceIte, if_true, if_false, Nat.reduceEqDiff, ne_eq, not_false_eq_true, Nat.reduceEqDiff, not_true_eq_false, hI, c1, tl_8 (show x < 900 by omega), c2, stop x hqx]
    · by_cases c3 : Int32.ofNat 122 < A 8 x
      · have hn : ¬ pAt (A 8) len x (Int32.ofNat 97) (Int32.ofNat 122) = true := by rw [pAt_iff]; exact fun z => absurd z.2.2 (Int32.not_le.mpr c3)
        rw [if_neg hn]
        simp (maxDischargeDepth := 9) only [xbind, xlet, xpure, tw_sel, tg_0, tg_4, tg_9, tg_12, tg_13, tg_14, tg_15, tg_16, tg_17, tg_18, tg_19, tg_20, tg_21, tg_24, tr_1, tr_2, tr_3, tr_5, tr_6, tr_7, tr_8, tr_10, tr_11, tr_22, tr_23, tp_0, tp_4, tp_9, tp_12, tp_13, tp_14, tp_15, tp_16, tp_17, tp_18, tp_19, tp_20, tp_21, tp_24, va_up_self, va_up_ne, va_uu, i_ofNat, i_add, i_mul, Nat.add_zero, Nat.zero_add, reduceIte, if_true, if_false, Nat.reduceEqDiff, ne_eq, not_false_eq_true, Nat.reduceEqDiff, not_true_eq_false, hI, c1, tl_8 (show x < 900 by omega), c2, c3, stop x hqx]
      · have hn : pAt (A 8) len x (Int32.ofNat 97) (Int32.ofNat 122) = true := by rw [pAt_iff]; exact ⟨hxl, Int32.not_lt.mp c2, Int32.not_lt.mp c3⟩
        rw [if_pos hn]
        have e := ih (x + 1) fu (by omega) (by omega) (by omega)
        simp (maxDischargeDepth := 9) only [xbind, xlet, xpure, tw_sel, tg_0, tg_4, tg_9, tg_12, tg_13, tg_14, tg_15, tg_16, tg_17, tg_18, tg_19, tg_20, tg_21, tg_24, tr_1, tr_2, tr_3, tr_5, tr_6, tr_7, tr_8, tr_10, tr_11, tr_22, tr_23, tp_0, tp_4, tp_9, tp_12, tp_13, tp_14, tp_15, tp_16, tp_17, tp_18, tp_19, tp_20, tp_21, tp_24, va_up_self, va_up_ne, va_uu, i_ofNat, i_add, i_mul, Nat.add_zero, Nat.zero_add, reduceIte, if_true, if_false, Nat.reduceEqDiff, ne_eq, not_false_eq_true, Nat.reduceEqDiff, not_true_eq_false, hI, c1, tl_8 (show x < 900 by omega), c2, c3, e]
theorem t_wordHere (H : tPs T len I A p) : ∃ J, fX3_wordHere m Γ (tw m I A S h) n = some (.inl (Int32.ofNat (gWE T len (gBl T len p) - gBl T len p)), tw m J A S h, 0, 0) ∧ tOk I J (gBl T len p) ∧ J 14 = Int32.ofNat (gBl T len p) := by
  obtain ⟨J, e1, o1, b1⟩ := t_bl (Γ := Γ) (n := n) (m := m) (S := S) (h := h) H
  obtain ⟨h1, h2, h3, rfl, h5, h6⟩ := H
  have q1 := gBl_le (T := A 8) h5
  have f2 : J 15 = Int32.ofNat len := by rw [o1.2 15 (by decide) (by decide)]; exact h2
  have v1 := o1.1
  have e2 := t_wordHere_p9 (Γ := Γ) (n := n) (m := m) (A := A) (S := S) (h := h) f2 o1.1 rfl h6 (len - gBl (A 8) len p) (gBl (A 8) len p) xFU (by omega) (Nat.le_refl _) (by unfold xFU; omega)
  refine ⟨J, ?_, o1, b1⟩
  unfold gWE
  simp (maxDischargeDepth := 9) only [fX3_wordHere, xbind, xlet, xpure, tw_sel, tg_0, tg_4, tg_9, tg_12, tg_13, tg_14, tg_15, tg_16, tg_17, tg_18, tg_19, tg_20, tg_21, tg_24, tr_1, tr_2, tr_3, tr_5, tr_6, tr_7, tr_8, tr_10, tr_11, tr_22, tr_23, tp_0, tp_4, tp_9, tp_12, tp_13, tp_14, tp_15, tp_16, tp_17, tp_18, tp_19, tp_20, tp_21, tp_24, va_up_self, va_up_ne, va_uu, i_ofNat, i_add, i_mul, Nat.add_zero, Nat.zero_add, reduceIte, if_true, if_false, Nat.reduceEqDiff, ne_eq, not_false_eq_true, Nat.reduceEqDiff, not_true_eq_false, e1, v1, e2]
end TP4
