/-! part 465: the twin's parser: formulas are written, brackets -/
/-- the words ts stand in R from f on -/
def tFm (R : Nat → Int32) (f : Nat) (ts : List (Nat × Int32)) : Prop := R f = Int32.ofNat (tlen ts) ∧ pEnc R (f + 1) ts
theorem pEnc_congr {R Q : Nat → Int32} : ∀ (ts : List (Nat × Int32)) (p : Nat), pEnc R p ts → (∀ j, p ≤ j → j < p + tlen ts → Q j = R j) → pEnc Q p ts := by
  intro ts
  induction ts with
  | nil => intro p _ _; trivial
  | cons t ts ih =>
    intro p h1 h2
    obtain ⟨k, v⟩ := t
    unfold pEnc at h1 ⊢
    unfold tlen at h2
    refine ⟨h1.1, ?_, ?_⟩
    · rw [h2 p (by omega) (by split <;> omega)]; exact h1.2.1
    · by_cases hk : k = 0
      · have h3 := h1.2.2
        rw [if_pos hk] at h3 h2 ⊢
        exact ⟨by rw [h2 (p + 1) (by omega) (by omega)]; exact h3.1, ih (p + 2) h3.2 (fun j a b => h2 j (by omega) (by omega))⟩
      · have h3 := h1.2.2
        rw [if_neg hk] at h3 h2 ⊢
        exact ih (p + 1) h3 (fun j a b => h2 j (by omega) (by omega))
theorem pEnc_app {R : Nat → Int32} : ∀ (a b : List (Nat × Int32)) (p : Nat), pEnc R p a → pEnc R (p + tlen a) b → pEnc R p (a ++ b) := by
  intro a
  induction a with
  | nil => intro b p _ h; exact h
  | cons t a ih =>
    intro b p h1 h2
    obtain ⟨k, v⟩ := t
    simp only [List.cons_append]
    unfold pEnc at h1 ⊢
    unfold tlen at h2
    refine ⟨h1.1, h1.2.1, ?_⟩
    by_cases hk : k = 0
    · have h3 := h1.2.2
      rw [if_pos hk] at h3 h2 ⊢
      exact ⟨h3.1, ih b (p + 2) h3.2 (by rw [Nat.add_assoc]; exact h2)⟩
    · have h3 := h1.2.2
      rw [if_neg hk] at h3 h2 ⊢
      exact ih b (p + 1) h3 (by rw [Nat.add_assoc]; exact h2)
theorem tFm.put {R : Nat → Int32} {f k : Nat} {ts : List (Nat × Int32)} {v : Int32} (H : tFm R f ts) (h1 : 1 ≤ k) (h2 : k ≤ 10) : tFm (va_up (va_up R f (Int32.ofNat (tlen ts + 1))) (f + (tlen ts + 1)) (Int32.ofNat k)) f (ts ++ [(k, v)]) := by
  have e : tlen [(k, v)] = 1 := by unfold tlen; rw [if_neg (by omega)]; rfl
  refine ⟨?_, pEnc_app _ _ _ (pEnc_congr _ _ H.2 (fun j a b => ?_)) ?_⟩
  · rw [va_up_ne _ _ (by omega), va_up_self, tlen_app, e]
  · rw [va_up_ne _ _ (by omega), va_up_ne _ _ (by omega)]
  · have e2 : f + 1 + tlen ts = f + (tlen ts + 1) := by omega
    rw [e2]
    unfold pEnc
    refine ⟨h2, va_up_self _ _ _, ?_⟩
    rw [if_neg (by omega)]
    unfold pEnc
    trivial
theorem tFm.put0 {R : Nat → Int32} {f : Nat} {ts : List (Nat × Int32)} {v : Int32} (H : tFm R f ts) : tFm (va_up (va_up (va_up (va_up R f (Int32.ofNat (tlen ts + 1))) (f + (tlen ts + 1)) (Int32.ofNat 0)) f (Int32.ofNat (tlen ts + 1 + 1))) (f + (tlen ts + 1 + 1)) v) f (ts ++ [(0, v)]) := by
  refine ⟨?_, pEnc_app _ _ _ (pEnc_congr _ _ H.2 (fun j a b => ?_)) ?_⟩
  · rw [va_up_ne _ _ (by omega), va_up_self, tlen_app]; rfl
  · rw [va_up_ne _ _ (by omega), va_up_ne _ _ (by omega), va_up_ne _ _ (by omega), va_up_ne _ _ (by omega)]
  · have e2 : f + 1 + tlen ts = f + (tlen ts + 1) := by omega
    rw [e2]
    unfold pEnc
    refine ⟨by omega, ?_, ?_⟩
    · rw [va_up_ne _ _ (by omega), va_up_ne _ _ (by omega)]; exact va_up_self _ _ _
    · rw [if_pos rfl]
      refine ⟨va_up_self _ _ _, ?_⟩
      unfold pEnc
      trivial
section TP6
variable {Γ : Nat → Option Nat} {m n : Nat} {I : Nat → Int32} {A : Nat → Nat → Int32} {S : Nat → Int64} {h : xH} {T : Nat → Int32} {len p f : Nat}
theorem t_putsF {v : Int32} (hf : ¬ I 16 = -Int32.ofNat 1) : fX3_puts m v Γ (tw m I A S h) n = some (.inl (), tw m I A S h, 0, 0) := by
  have e0 := t_hasFailed1 (Γ := Γ) (n := n) (m := m) (A := A) (S := S) (h := h) hf
  have d1 : ¬ Int32.ofNat 1 = Int32.ofNat 0 := by decide
  simp (maxDischargeDepth := 9) only [fX3_puts, xbind, xlet, xpure, tw_sel, tg_0, tg_4, tg_9, tg_12, tg_13, tg_14, tg_15, tg_16, tg_17, tg_18, tg_19, tg_20, tg_21, tg_24, tr_1, tr_2, tr_3, tr_5, tr_6, tr_7, tr_8, tr_10, tr_11, tr_22, tr_23, tp_0, tp_4, tp_9, tp_12, tp_13, tp_14, tp_15, tp_16, tp_17, tp_18, tp_19, tp_20, tp_21, tp_24, va_up_self, va_up_ne, va_uu, i_ofNat, i_add, i_mul, Nat.add_zero, Nat.zero_add, reduceIte, if_true, if_false, Nat.reduceEqDiff, ne_eq, not_false_eq_true, Nat.reduceEqDiff, not_true_eq_false, e0, d1]
theorem t_puts {v : Int32} {L : Nat} (hf : I 16 = -Int32.ofNat 1) (h20 : I 20 = Int32.ofNat f) (hL : A 6 f = Int32.ofNat L) (hb : f + (L + 1) < 5604) : fX3_puts m v Γ (tw m I A S h) n = some (.inl (), tw m I (va_up A 6 (va_up (va_up (A 6) f (Int32.ofNat (L + 1))) (f + (L + 1)) v)) S h, 0, 0) := by
  have e0 := t_hasFailed0 (Γ := Γ) (n := n) (m := m) (A := A) (S := S) (h := h) hf
  simp (maxDischargeDepth := 9) only [fX3_puts, xbind, xlet, xpure, tw_sel, tg_0, tg_4, tg_9, tg_12, tg_13, tg_14, tg_15, tg_16, tg_17, tg_18, tg_19, tg_20, tg_21, tg_24, tr_1, tr_2, tr_3, tr_5, tr_6, tr_7, tr_8, tr_10, tr_11, tr_22, tr_23, tp_0, tp_4, tp_9, tp_12, tp_13, tp_14, tp_15, tp_16, tp_17, tp_18, tp_19, tp_20, tp_21, tp_24, va_up_self, va_up_ne, va_uu, i_ofNat, i_add, i_mul, Nat.add_zero, Nat.zero_add, reduceIte, if_true, if_false, Nat.reduceEqDiff, ne_eq, not_false_eq_true, Nat.reduceEqDiff, not_true_eq_false, e0, h20, tl_6 (show f < 5604 by omega), ts_6 (show f < 5604 by omega), hL, ts_6 hb]
theorem t_put {k : Nat} {ts : List (Nat × Int32)} (hf : I 16 = -Int32.ofNat 1) (h20 : I 20 = Int32.ofNat f) (hF : tFm (A 6) f ts) (hl : tlen ts + 1 ≤ 1400) (hb : f + 1400 < 5604) (h1 : 1 ≤ k) (h2 : k ≤ 10) : ∃ R, fX3_puts m (Int32.ofNat k) Γ (tw m I A S h) n = some (.inl (), tw m I (va_up A 6 R) S h, 0, 0) ∧ (∀ j, (j < f ∨ f + 1400 < j) → R j = A 6 j) ∧ tFm R f (ts ++ [(k, 0)]) := by
  refine ⟨_, t_puts hf h20 hF.1 (by omega), fun j hj => ?_, hF.put h1 h2⟩
  rw [va_up_ne _ _ (by omega), va_up_ne _ _ (by omega)]
theorem t_put0 {ts : List (Nat × Int32)} (v : Int32) (hf : I 16 = -Int32.ofNat 1) (h20 : I 20 = Int32.ofNat f) (hF : tFm (A 6) f ts) (hl : tlen ts + 2 ≤ 1400) (hb : f + 1400 < 5604) : ∃ R1 R, fX3_puts m (Int32.ofNat 0) Γ (tw m I A S h) n = some (.inl (), tw m I (va_up A 6 R1) S h, 0, 0) ∧ fX3_puts m v Γ (tw m I (va_up A 6 R1) S h) n = some (.inl (), tw m I (va_up A 6 R) S h, 0, 0) ∧ (∀ j, (j < f ∨ f + 1400 < j) → R j = A 6 j) ∧ tFm R f (ts ++ [(0, v)]) := by
  have e1 := t_puts (Γ := Γ) (n := n) (m := m) (S := S) (h := h) (v := Int32.ofNat 0) hf h20 hF.1 (by omega)
  have e2 := t_puts (Γ := Γ) (n := n) (m := m) (S := S) (h := h) (I := I) (A := va_up A 6 (va_up (va_up (A 6) f (Int32.ofNat (tlen ts + 1))) (f + (tlen ts + 1)) (Int32.ofNat 0))) (L := tlen ts + 1) (v := v) hf h20 (by rw [va_up_self, va_up_ne _ _ (by omega), va_up_self]) (by omega)
  rw [va_uu, va_up_self] at e2
  refine ⟨_, _, e1, e2, fun j hj => ?_, hF.put0⟩
  rw [va_up_ne _ _ (by omega), va_up_ne _ _ (by omega), va_up_ne _ _ (by omega), va_up_ne _ _ (by omega)]
/-- a bracket is opened: as tOk, but the depth is one more -/
def tOp (I J : Nat → Int32) (p k : Nat) : Prop := J 13 = Int32.ofNat p ∧ J 21 = Int32.ofNat k ∧ ∀ j, j ≠ 13 → j ≠ 14 → j ≠ 21 → J j = I j
theorem t_opensBracket {k : Nat} (H : tPs T len I A p) (hk : I 21 = Int32.ofNat k) (hk4 : k ≤ 4) : ∃ J, fX3_opensBracket m Γ (tw m I A S h) n = some (.inl (), tw m J A S h, 0, 0) ∧ (match gOpen T len k p with
  | .inl e => tEr I J e
  | .inr p' => tOp I J p' (k + 1)) := by
  obtain ⟨J, e1, o1, b1⟩ := t_bl (Γ := Γ) (n := n) (m := m) (S := S) (h := h) H
  obtain ⟨h1, h2, h3, rfl, h5, h6⟩ := H
  have q1 := gBl_le (T := A 8) h5
  have f1 : J 16 = -Int32.ofNat 1 := by rw [o1.2 16 (by decide) (by decide)]; exact h3
  have f2 : J 15 = Int32.ofNat len := by rw [o1.2 15 (by decide) (by decide)]; exact h2
  have f3 : J 21 = Int32.ofNat k := by rw [o1.2 21 (by decide) (by decide)]; exact hk
  have v1 := o1.1
  have e3 := t_isAt (Γ := Γ) (n := n) (m := m) (A := A) (S := S) (h := h) (lo := Int32.ofNat 40) (hi := Int32.ofNat 40) o1.1 f2 h6 (by omega)
  have d1 : ¬ Int32.ofNat 1 = Int32.ofNat 0 := by decide
  unfold gOpen
  cases hc : pAt (A 8) len (gBl (A 8) len p) (Int32.ofNat 40) (Int32.ofNat 40) with
  | false =>
    rw [hc, b2i_f] at e3
    rw [if_neg (by decide)]
    obtain ⟨K, e4, o4⟩ := t_must0e (Γ := Γ) (n := n) (m := m) (A := A) (S := S) (h := h) (k := 1) f1 b1
    have g := o4.fail (by omega)
    have e5 := fun (I' : Nat → Int32) (hI : ¬ I' 16 = -Int32.ofNat 1) => t_hasFailed1 (Γ := Γ) (n := n) (m := m) (A := A) (S := S) (h := h) hI
    have e6 := fun b => t_mustF (Γ := Γ) (n := n) (m := m) (A := A) (S := S) (h := h) (b := b) (k := Int32.ofNat 4) g
    have g2 : ¬ (va_up K 21 (K 21 + Int32.ofNat 1)) 16 = -Int32.ofNat 1 := by rw [va_up_ne _ _ (by decide)]; exact g
    refine ⟨va_up K 21 (K 21 + Int32.ofNat 1), ?_, ?_⟩
    · by_cases c5 : Int32.ofNat 5 ≤ K 21 + Int32.ofNat 1
      · simp (maxDischargeDepth := 9) only [fX3_opensBracket, fX3_opensBracket_p33, xbind, xlet, xpure, tw_sel, tg_0, tg_4, tg_9, tg_12, tg_13, tg_14, tg_15, tg_16, tg_17, tg_18, tg_19, tg_20, tg_21, tg_24, tr_1, tr_2, tr_3, tr_5, tr_6, tr_7, tr_8, tr_10, tr_11, tr_22, tr_23, tp_0, tp_4, tp_9, tp_12, tp_13, tp_14, tp_15, tp_16, tp_17, tp_18, tp_19, tp_20, tp_21, tp_24, va_up_self, va_up_ne, va_uu, i_ofNat, i_add, i_mul, Nat.add_zero, Nat.zero_add, reduceIte, if_true, if_false, Nat.reduceEqDiff, ne_eq, not_false_eq_true, Nat.reduceEqDiff, not_true_eq_false, e1, e3, e4, e5 _ g2, e6, c5, d1]
      · simp (maxDischargeDepth := 9) only [fX3_opensBracket, fX3_opensBracket_p33, xbind, xlet, xpure, tw_sel, tg_0, tg_4, tg_9, tg_12, tg_13, tg_14, tg_15, tg_16, tg_17, tg_18, tg_19, tg_20, tg_21, tg_24, tr_1, tr_2, tr_3, tr_5, tr_6, tr_7, tr_8, tr_10, tr_11, tr_22, tr_23, tp_0, tp_4, tp_9, tp_12, tp_13, tp_14, tp_15, tp_16, tp_17, tp_18, tp_19, tp_20, tp_21, tp_24, va_up_self, va_up_ne, va_uu, i_ofNat, i_add, i_mul, Nat.add_zero, Nat.zero_add, reduceIte, if_true, if_false, Nat.reduceEqDiff, ne_eq, not_false_eq_true, Nat.reduceEqDiff, not_true_eq_false, e1, e3, e4, e5 _ g2, e6, c5, d1]
    · have o5 := o1.er o4
      exact ⟨by rw [va_up_ne _ _ (by decide)]; exact o5.1, by rw [va_up_ne _ _ (by decide)]; exact o5.2.1, fun j a b c d e => by rw [va_up_ne _ _ e]; exact o5.2.2 j a b c d e⟩
  | true =>
    rw [hc, b2i_t] at e3
    rw [if_pos rfl]
    have e4 := fun c => t_must1 (Γ := Γ) (n := n) (m := m) (I := J) (A := A) (S := S) (h := h) (k := c)
    by_cases c5 : k < 4
    · have l5 : ¬ Int32.ofNat 5 ≤ Int32.ofNat (k + 1) := by rw [i_le (by omega) (by omega)]; omega
      rw [if_pos c5]
      have e5 := t_hasFailed0 (Γ := Γ) (n := n) (m := m) (I := va_up J 21 (Int32.ofNat (k + 1))) (A := A) (S := S) (h := h) (by rw [va_up_ne _ _ (by decide)]; exact f1)
      refine ⟨va_up (va_up J 21 (Int32.ofNat (k + 1))) 13 (Int32.ofNat (gBl (A 8) len p + 1)), ?_, va_up_self _ _ _, ?_, fun j a b c => ?_⟩
      · simp (maxDischargeDepth := 9) only [fX3_opensBracket, fX3_opensBracket_p33, xbind, xlet, xpure, tw_sel, tg_0, tg_4, tg_9, tg_12, tg_13, tg_14, tg_15, tg_16, tg_17, tg_18, tg_19, tg_20, tg_21, tg_24, tr_1, tr_2, tr_3, tr_5, tr_6, tr_7, tr_8, tr_10, tr_11, tr_22, tr_23, tp_0, tp_4, tp_9, tp_12, tp_13, tp_14, tp_15, tp_16, tp_17, tp_18, tp_19, tp_20, tp_21, tp_24, va_up_self, va_up_ne, va_uu, i_ofNat, i_add, i_mul, Nat.add_zero, Nat.zero_add, reduceIte, if_true, if_false, Nat.reduceEqDiff, ne_eq, not_false_eq_true, Nat.reduceEqDiff, not_true_eq_false, e1, e3, e4, f3, l5, e5, v1]
      · rw [va_up_ne _ _ (by decide)]; exact va_up_self _ _ _
      · rw [va_up_ne _ _ a, va_up_ne _ _ c]; exact o1.2 j a b
    · have l5 : Int32.ofNat 5 ≤ Int32.ofNat (k + 1) := by rw [i_le (by omega) (by omega)]; omega
      rw [if_neg c5]
      obtain ⟨K, e6, o6⟩ := t_must0e (Γ := Γ) (n := n) (m := m) (A := A) (S := S) (h := h) (k := 4) f1 b1
      have g := o6.fail (by omega)
      have g2 : ¬ (va_up K 21 (K 21 + Int32.ofNat 1)) 16 = -Int32.ofNat 1 := by rw [va_up_ne _ _ (by decide)]; exact g
      have e5 := t_hasFailed1 (Γ := Γ) (n := n) (m := m) (A := A) (S := S) (h := h) g2
      refine ⟨va_up K 21 (K 21 + Int32.ofNat 1), ?_, ?_⟩
      · simp (maxDischargeDepth := 9) only [fX3_opensBracket, fX3_opensBracket_p33, xbind, xlet, xpure, tw_sel, tg_0, tg_4, tg_9, tg_12, tg_13, tg_14, tg_15, tg_16, tg_17, tg_18, tg_19, tg_20, tg_21, tg_24, tr_1, tr_2, tr_3, tr_5, tr_6, tr_7, tr_8, tr_10, tr_11, tr_22, tr_23, tp_0, tp_4, tp_9, tp_12, tp_13, tp_14, tp_15, tp_16, tp_17, tp_18, tp_19, tp_20, tp_21, tp_24, va_up_self, va_up_ne, va_uu, i_ofNat, i_add, i_mul, Nat.add_zero, Nat.zero_add, reduceIte, if_true, if_false, Nat.reduceEqDiff, ne_eq, not_false_eq_true, Nat.reduceEqDiff, not_true_eq_false, e1, e3, e4, f3, l5, e6, e5, d1]
      · have o5 := o1.er o6
        exact ⟨by rw [va_up_ne _ _ (by decide)]; exact o5.1, by rw [va_up_ne _ _ (by decide)]; exact o5.2.1, fun j a b c d e => by rw [va_up_ne _ _ e]; exact o5.2.2 j a b c d e⟩
theorem t_closesBracketF (hf : ¬ I 16 = -Int32.ofNat 1) : fX3_closesBracket m Γ (tw m I A S h) n = some (.inl (), tw m (va_up I 21 (I 21 - Int32.ofNat 1)) A S h, 0, 0) := by
  have e0 := t_needsF (Γ := Γ) (n := n) (m := m) (A := A) (S := S) (h := h) (c := Int32.ofNat 41) hf
  simp (maxDischargeDepth := 9) only [fX3_closesBracket, xbind, xlet, xpure, tw_sel, tg_0, tg_4, tg_9, tg_12, tg_13, tg_14, tg_15, tg_16, tg_17, tg_18, tg_19, tg_20, tg_21, tg_24, tr_1, tr_2, tr_3, tr_5, tr_6, tr_7, tr_8, tr_10, tr_11, tr_22, tr_23, tp_0, tp_4, tp_9, tp_12, tp_13, tp_14, tp_15, tp_16, tp_17, tp_18, tp_19, tp_20, tp_21, tp_24, va_up_self, va_up_ne, va_uu, i_ofNat, i_add, i_mul, Nat.add_zero, Nat.zero_add, reduceIte, if_true, if_false, Nat.reduceEqDiff, ne_eq, not_false_eq_true, Nat.reduceEqDiff, not_true_eq_false, e0]
theorem tEr.depth {I J : Nat → Int32} {e : Nat × Nat} (o : tEr I J e) (v : Int32) : tEr I (va_up J 21 v) e := ⟨by rw [va_up_ne _ _ (by decide)]; exact o.1, by rw [va_up_ne _ _ (by decide)]; exact o.2.1, fun j a b c d e => by rw [va_up_ne _ _ e]; exact o.2.2 j a b c d e⟩
theorem t_closesBracket {k : Nat} (H : tPs T len I A p) (hk : I 21 = Int32.ofNat (k + 1)) : ∃ J, fX3_closesBracket m Γ (tw m I A S h) n = some (.inl (), tw m J A S h, 0, 0) ∧ (match gSg T len 41 p with
  | .inl e => tEr I J e
  | .inr p' => tOp I J p' k) := by
  cases hg : gSg T len 41 p with
  | inl e =>
    obtain ⟨J, e1, o1⟩ := t_needs0 (Γ := Γ) (n := n) (m := m) (S := S) (h := h) H hg
    refine ⟨va_up J 21 (J 21 - Int32.ofNat 1), ?_, o1.depth _⟩
    simp (maxDischargeDepth := 9) only [fX3_closesBracket, xbind, xlet, xpure, tw_sel, tg_0, tg_4, tg_9, tg_12, tg_13, tg_14, tg_15, tg_16, tg_17, tg_18, tg_19, tg_20, tg_21, tg_24, tr_1, tr_2, tr_3, tr_5, tr_6, tr_7, tr_8, tr_10, tr_11, tr_22, tr_23, tp_0, tp_4, tp_9, tp_12, tp_13, tp_14, tp_15, tp_16, tp_17, tp_18, tp_19, tp_20, tp_21, tp_24, va_up_self, va_up_ne, va_uu, i_ofNat, i_add, i_mul, Nat.add_zero, Nat.zero_add, reduceIte, if_true, if_false, Nat.reduceEqDiff, ne_eq, not_false_eq_true, Nat.reduceEqDiff, not_true_eq_false, e1]
  | inr p' =>
    obtain ⟨J, e1, o1⟩ := t_needs1 (Γ := Γ) (n := n) (m := m) (S := S) (h := h) H hg
    have f3 : J 21 = Int32.ofNat (k + 1) := by rw [o1.2 21 (by decide) (by decide)]; exact hk
    have s1 : Int32.ofNat (k + 1) - Int32.ofNat 1 = Int32.ofNat k := i_sub (by omega)
    refine ⟨va_up J 21 (Int32.ofNat k), ?_, ?_, va_up_self _ _ _, fun j a b c => ?_⟩
    · simp (maxDischargeDepth := 9) only [fX3_closesBracket, xbind, xlet, xpure, tw_sel, tg_0, tg_4, tg_9, tg_12, tg_13, tg_14, tg_15, tg_16, tg_17, tg_18, tg_19, tg_20, tg_21, tg_24, tr_1, tr_2, tr_3, tr_5, tr_6, tr_7, tr_8, tr_10, tr_11, tr_22, tr_23, tp_0, tp_4, tp_9, tp_12, tp_13, tp_14, tp_15, tp_16, tp_17, tp_18, tp_19, tp_20, tp_21, tp_24, va_up_self, va_up_ne, va_uu, i_ofNat, i_add, i_mul, Nat.add_zero, Nat.zero_add, reduceIte, if_true, if_false, Nat.reduceEqDiff, ne_eq, not_false_eq_true, Nat.reduceEqDiff, not_true_eq_false, e1, f3, s1]
    · rw [va_up_ne _ _ (by decide)]; exact o1.1
    · rw [va_up_ne _ _ c]; exact o1.2 j a b
end TP6
/-- the steps c read a formula's part from p on, at depth k, as g says -/
def tFc (Γ : Nat → Option Nat) (m : Nat) (h : xH) (T : Nat → Int32) (len f : Nat) (c : xM Unit) (k p : Nat) (g : gR) : Prop :=
  ∀ (I : Nat → Int32) (A : Nat → Nat → Int32) (Z : Nat → Int64) (n : Nat) (ts0 : List (Nat × Int32)), tPs T len I A p → I 20 = Int32.ofNat f → I 21 = Int32.ofNat k → tFm (A 6) f ts0 → 2 * tlen ts0 ≤ 3 * p →
    ∃ J R, c Γ (tw m I A Z h) n = some (.inl (), tw m J (va_up A 6 R) Z h, 0, 0) ∧ (∀ j, (j < f ∨ f + 1400 < j) → R j = A 6 j) ∧ (match g with
      | .inl e => tEr I J e
      | .inr (p', ts) => tOk I J p' ∧ tFm R f (ts0 ++ ts))
