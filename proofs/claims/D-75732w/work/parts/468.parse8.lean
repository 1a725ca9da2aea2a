/-! part 468: the twin's parser: terms and sums (printed twice from one text) -/
section TP9
variable {Γ : Nat → Option Nat} {m : Nat} {h : xH} {T : Nat → Int32} {len f : Nat} {X : Nat → xM Unit} {G : Nat → Nat → gR}
theorem t_termLoop (hs : tStr Γ m h) {k : Nat} (hX : k < 4 → ∀ p, p ≤ len → tFc Γ m h T len f (X m) (k + 1) p (G (k + 1) p)) (hG : ∀ k p, k ≤ 4 → p ≤ len → gOk len p (G k p)) (hf : f + 1400 < 5604) (hk : k ≤ 4) : ∀ (g p fu : Nat) (ts ts0 : List (Nat × Int32)) (I : Nat → Int32) (A : Nat → Nat → Int32) (Z : Nat → Int64) (n : Nat), len < p + g → g + 3 < fu → tPs T len I A p → I 20 = Int32.ofNat f → I 21 = Int32.ofNat k → tFm (A 6) f (ts0 ++ ts) → 2 * tlen (ts0 ++ ts) ≤ 3 * p + 1 →
    ∃ J R, fX3_readTerm_p17 X fu m (Int32.ofNat 1) Γ (tw m I A Z h) n = some (.inl (), tw m J (va_up A 6 R) Z h, 0, 0) ∧ (∀ j, (j < f ∨ f + 1400 < j) → R j = A 6 j) ∧ (match gLoop T len 42 7 47 8 (gFac T len G k) g p ts with
      | .inl e => tEr I J e
      | .inr (p', ts') => tOk I J p' ∧ tFm R f (ts0 ++ ts')) := by
  have d1 : ¬ Int32.ofNat 1 = Int32.ofNat 0 := by decide
  have l0 : ∀ (fu : Nat) (I : Nat → Int32) (A : Nat → Nat → Int32) (Z : Nat → Int64) (n : Nat), 0 < fu → fX3_readTerm_p17 X fu m (Int32.ofNat 0) Γ (tw m I A Z h) n = some (.inl (), tw m I A Z h, 0, 0) := by
    intro fu I A Z n hfu
    obtain ⟨fu, rfl⟩ : ∃ g, fu = g + 1 := ⟨fu - 1, by omega⟩
    rw [fX3_readTerm_p17]
    simp (maxDischargeDepth := 9) only [xbind, xlet, xpure, tw_sel, tg_0, tg_4, tg_9, tg_12, tg_13, tg_14, tg_15, tg_16, tg_17, tg_18, tg_19, tg_20, tg_21, tg_24, tr_1, tr_2, tr_3, tr_5, tr_6, tr_7, tr_8, tr_10, tr_11, tr_22, tr_23, tp_0, tp_4, tp_9, tp_12, tp_13, tp_14, tp_15, tp_16, tp_17, tp_18, tp_19, tp_20, tp_21, tp_24, va_up_self, va_up_ne, va_uu, i_ofNat, i_add, i_mul, Nat.add_zero, Nat.zero_add, reduceIte, if_true, if_false, Nat.reduceEqDiff, ne_eq, not_false_eq_true, Nat.reduceEqDiff, not_true_eq_false]
  have lF : ∀ (fu : Nat) (I : Nat → Int32) (A : Nat → Nat → Int32) (Z : Nat → Int64) (n : Nat), 1 < fu → ¬ I 16 = -Int32.ofNat 1 → fX3_readTerm_p17 X fu m (Int32.ofNat 1) Γ (tw m I A Z h) n = some (.inl (), tw m I A Z h, 0, 0) := by
    intro fu I A Z n hfu hI
    obtain ⟨fu, rfl⟩ : ∃ g, fu = g + 1 := ⟨fu - 1, by omega⟩
    have e1 := fun c => t_takesSignF (Γ := Γ) (n := n) (m := m) (A := A) (S := Z) (h := h) (c := c) hI
    have e2 := l0 fu I A Z n (by omega)
    rw [fX3_readTerm_p17]
    simp (maxDischargeDepth := 9) only [xbind, xlet, xpure, tw_sel, tg_0, tg_4, tg_9, tg_12, tg_13, tg_14, tg_15, tg_16, tg_17, tg_18, tg_19, tg_20, tg_21, tg_24, tr_1, tr_2, tr_3, tr_5, tr_6, tr_7, tr_8, tr_10, tr_11, tr_22, tr_23, tp_0, tp_4, tp_9, tp_12, tp_13, tp_14, tp_15, tp_16, tp_17, tp_18, tp_19, tp_20, tp_21, tp_24, va_up_self, va_up_ne, va_uu, i_ofNat, i_add, i_mul, Nat.add_zero, Nat.zero_add, reduceIte, if_true, if_false, Nat.reduceEqDiff, ne_eq, not_false_eq_true, Nat.reduceEqDiff, not_true_eq_false, d1, e1, fX3_readTerm_p50, fX3_readTerm_p61, fX3_readTerm_p70, fX3_readTerm_p79, e2]
  intro g
  induction g with
  | zero => intro p fu ts ts0 I A Z n a b c; exact absurd c.2.2.2.2.1 (by omega)
  | succ g ih =>
    intro p fu ts ts0 I A Z n hlen hfu H h20 h21 hF hb
    obtain ⟨fu, rfl⟩ : ∃ g, fu = g + 1 := ⟨fu - 1, by omega⟩
    have h9 : len ≤ 900 := H.2.2.2.2.2
    have hp : p ≤ len := H.2.2.2.2.1
    have q0 := gBl_ge (T := T) (len := len) (p := p)
    have q1 := gBl_le (T := T) hp
    have qi := gBl_idem (T := T) (len := len) (p := p)
    obtain ⟨J, e1, o1, b1⟩ := t_takesSign (Γ := Γ) (n := n) (m := m) (S := Z) (h := h) (c := 42) H
    have step : ∀ (op : Nat) (J : Nat → Int32), 5 ≤ op → op ≤ 10 → gBl T len p + 1 ≤ len → tOk I J (gBl T len p + 1) → ∃ K R, fX3_readTerm_p50 X (fX3_readTerm_p17 X fu) m (Int32.ofNat op) Γ (tw m J A Z h) n = some (.inl (), tw m K (va_up A 6 R) Z h, 0, 0) ∧ (∀ j, (j < f ∨ f + 1400 < j) → R j = A 6 j) ∧ (match (match gFac T len G k (gBl T len p + 1) with
        | .inl e => (.inl e : gR)
        | .inr (p2, ts2) => gLoop T len 42 7 47 8 (gFac T len G k) g p2 (ts ++ (ts2 ++ [(op, 0)]))) with
      | .inl e => tEr I K e
      | .inr (p', ts') => tOk I K p' ∧ tFm R f (ts0 ++ ts')) := by
      intro op J h5 h10 hl o1
      have c1 : ¬ Int32.ofNat op = -Int32.ofNat 1 := by
        intro z
        have z1 := congrArg Int32.toInt z
        rw [i_toInt (by omega)] at z1
        have z2 : (-Int32.ofNat 1).toInt = -1 := by decide
        omega
      have H1 := H.ok (B := A) o1 hl rfl
      have i20 : J 20 = Int32.ofNat f := by rw [o1.2 20 (by decide) (by decide)]; exact h20
      have i21 : J 21 = Int32.ofNat k := by rw [o1.2 21 (by decide) (by decide)]; exact h21
      obtain ⟨J2, R2, e2, r2, o2⟩ := t_readFactor (p := gBl T len p + 1) hs hX hG hf hk J A Z n (ts0 ++ ts) H1 i20 i21 hF (by omega)
      have b1 := gFac_ok (T := T) (k := k) hG hl
      cases hc : gFac T len G k (gBl T len p + 1) with
      | inl e =>
        rw [hc] at o2 b1
        have g2 := o2.fail (Nat.le_trans b1.1 h9)
        have e3 := t_putsF (Γ := Γ) (n := n) (m := m) (A := va_up A 6 R2) (S := Z) (h := h) (v := Int32.ofNat op) g2
        have e4 := lF fu J2 (va_up A 6 R2) Z n (by omega) g2
        refine ⟨J2, R2, ?_, r2, o1.er o2⟩
        simp (maxDischargeDepth := 9) only [xbind, xlet, xpure, tw_sel, tg_0, tg_4, tg_9, tg_12, tg_13, tg_14, tg_15, tg_16, tg_17, tg_18, tg_19, tg_20, tg_21, tg_24, tr_1, tr_2, tr_3, tr_5, tr_6, tr_7, tr_8, tr_10, tr_11, tr_22, tr_23, tp_0, tp_4, tp_9, tp_12, tp_13, tp_14, tp_15, tp_16, tp_17, tp_18, tp_19, tp_20, tp_21, tp_24, va_up_self, va_up_ne, va_uu, i_ofNat, i_add, i_mul, Nat.add_zero, Nat.zero_add, reduceIte, if_true, if_false, Nat.reduceEqDiff, ne_eq, not_false_eq_true, Nat.reduceEqDiff, not_true_eq_false, fX3_readTerm_p50, fX3_readTerm_p61, fX3_readTerm_p70, fX3_readTerm_p79, c1, d1, e2, e3, e4]
      | inr r =>
        obtain ⟨p2, ts2⟩ := r
        rw [hc] at o2 b1
        obtain ⟨o2, F2⟩ := o2
        obtain ⟨b1, b2, b3, b4⟩ := b1
        have H2 : tPs T len J2 (va_up A 6 R2) p2 := H1.ok o2 b2 a68
        have j20 : J2 20 = Int32.ofNat f := by rw [o2.2 20 (by decide) (by decide)]; exact i20
        have j21 : J2 21 = Int32.ofNat k := by rw [o2.2 21 (by decide) (by decide)]; exact i21
        have tl1 := tlen_app (ts0 ++ ts) ts2
        have tl2 := tlen_app (ts0 ++ ts ++ ts2) [(op, (0 : Int32))]
        have tl3 : tlen [(op, (0 : Int32))] = 1 := by unfold tlen; rw [if_neg (by omega)]; rfl
        obtain ⟨R3, e3, r3, F3⟩ := t_put (Γ := Γ) (n := n) (m := m) (I := J2) (A := va_up A 6 R2) (S := Z) (h := h) (k := op) (ts := ts0 ++ ts ++ ts2) H2.2.2.1 j20 (by rw [va_up_self]; exact F2) (by omega) hf (by omega) h10
        rw [va_uu] at e3
        rw [va_up_self] at r3
        have aa : ts0 ++ (ts ++ (ts2 ++ [(op, (0 : Int32))])) = ts0 ++ ts ++ ts2 ++ [(op, (0 : Int32))] := by simp only [List.append_assoc]
        obtain ⟨J4, R4, e4, r4, o4⟩ := ih p2 fu (ts ++ (ts2 ++ [(op, 0)])) ts0 J2 (va_up A 6 R3) Z n (by omega) (by omega) (H1.ok o2 b2 a68) j20 j21 (by rw [va_up_self, aa]; exact F3) (by rw [aa]; omega)
        rw [va_uu] at e4
        rw [va_up_self] at r4
        refine ⟨J4, R4, ?_, fun j hj => (r4 j hj).trans ((r3 j hj).trans ((by rw [va_up_self] : (va_up A 6 R2 6) j = R2 j) ▸ r2 j hj)), ?_⟩
        · simp (maxDischargeDepth := 9) only [xbind, xlet, xpure, tw_sel, tg_0, tg_4, tg_9, tg_12, tg_13, tg_14, tg_15, tg_16, tg_17, tg_18, tg_19, tg_20, tg_21, tg_24, tr_1, tr_2, tr_3, tr_5, tr_6, tr_7, tr_8, tr_10, tr_11, tr_22, tr_23, tp_0, tp_4, tp_9, tp_12, tp_13, tp_14, tp_15, tp_16, tp_17, tp_18, tp_19, tp_20, tp_21, tp_24, va_up_self, va_up_ne, va_uu, i_ofNat, i_add, i_mul, Nat.add_zero, Nat.zero_add, reduceIte, if_true, if_false, Nat.reduceEqDiff, ne_eq, not_false_eq_true, Nat.reduceEqDiff, not_true_eq_false, fX3_readTerm_p50, fX3_readTerm_p61, fX3_readTerm_p70, fX3_readTerm_p79, c1, d1, e2, e3, e4]
        · dsimp only
          generalize gLoop T len 42 7 47 8 (gFac T len G k) g p2 (ts ++ (ts2 ++ [(op, 0)])) = z at o4 ⊢
          rcases z with e | ⟨p', ts'⟩
          · exact o1.er (o2.er o4)
          · exact ⟨o1.trans (o2.trans o4.1), o4.2⟩
    rw [gLoop, fX3_readTerm_p17]
    cases hc : pAt T len (gBl T len p) (Int32.ofNat 42) (Int32.ofNat 42) with
    | true =>
      rw [hc, b2i_t] at e1
      rw [hc, if_pos rfl] at o1
      rw [if_pos rfl]
      obtain ⟨K, R, e2, r2, o2⟩ := step 7 J (by decide) (by decide) (pAt_iff.mp hc).1 o1
      refine ⟨K, R, ?_, r2, o2⟩
      simp (maxDischargeDepth := 9) only [xbind, xlet, xpure, tw_sel, tg_0, tg_4, tg_9, tg_12, tg_13, tg_14, tg_15, tg_16, tg_17, tg_18, tg_19, tg_20, tg_21, tg_24, tr_1, tr_2, tr_3, tr_5, tr_6, tr_7, tr_8, tr_10, tr_11, tr_22, tr_23, tp_0, tp_4, tp_9, tp_12, tp_13, tp_14, tp_15, tp_16, tp_17, tp_18, tp_19, tp_20, tp_21, tp_24, va_up_self, va_up_ne, va_uu, i_ofNat, i_add, i_mul, Nat.add_zero, Nat.zero_add, reduceIte, if_true, if_false, Nat.reduceEqDiff, ne_eq, not_false_eq_true, Nat.reduceEqDiff, not_true_eq_false, d1, e1, e2]
    | false =>
      rw [hc, b2i_f] at e1
      rw [hc, if_neg (by decide)] at o1
      rw [if_neg (by decide)]
      have H1 := H.ok (B := A) o1 q1 rfl
      obtain ⟨J2, e2, o2, b2⟩ := t_takesSign (Γ := Γ) (n := n) (m := m) (S := Z) (h := h) (c := 47) H1
      rw [qi] at e2 o2 b2
      cases hc2 : pAt T len (gBl T len p) (Int32.ofNat 47) (Int32.ofNat 47) with
      | true =>
        rw [hc2, b2i_t] at e2
        rw [hc2, if_pos rfl] at o2
        rw [if_pos rfl]
        obtain ⟨K, R, e3, r3, o3⟩ := step 8 J2 (by decide) (by decide) (pAt_iff.mp hc2).1 (o1.trans o2)
        refine ⟨K, R, ?_, r3, o3⟩
        simp (maxDischargeDepth := 9) only [xbind, xlet, xpure, tw_sel, tg_0, tg_4, tg_9, tg_12, tg_13, tg_14, tg_15, tg_16, tg_17, tg_18, tg_19, tg_20, tg_21, tg_24, tr_1, tr_2, tr_3, tr_5, tr_6, tr_7, tr_8, tr_10, tr_11, tr_22, tr_23, tp_0, tp_4, tp_9, tp_12, tp_13, tp_14, tp_15, tp_16, tp_17, tp_18, tp_19, tp_20, tp_21, tp_24, va_up_self, va_up_ne, va_uu, i_ofNat, i_add, i_mul, Nat.add_zero, Nat.zero_add, reduceIte, if_true, if_false, Nat.reduceEqDiff, ne_eq, not_false_eq_true, Nat.reduceEqDiff, not_true_eq_false, d1, e1, e2, e3]
      | false =>
        rw [hc2, b2i_f] at e2
        rw [hc2, if_neg (by decide)] at o2
        rw [if_neg (by decide)]
        have e3 := l0 fu J2 A Z n (by omega)
        refine ⟨J2, A 6, ?_, fun _ _ => rfl, o1.trans o2, hF⟩
        rw [va_id]
        simp (maxDischargeDepth := 9) only [xbind, xlet, xpure, tw_sel, tg_0, tg_4, tg_9, tg_12, tg_13, tg_14, tg_15, tg_16, tg_17, tg_18, tg_19, tg_20, tg_21, tg_24, tr_1, tr_2, tr_3, tr_5, tr_6, tr_7, tr_8, tr_10, tr_11, tr_22, tr_23, tp_0, tp_4, tp_9, tp_12, tp_13, tp_14, tp_15, tp_16, tp_17, tp_18, tp_19, tp_20, tp_21, tp_24, va_up_self, va_up_ne, va_uu, i_ofNat, i_add, i_mul, Nat.add_zero, Nat.zero_add, reduceIte, if_true, if_false, Nat.reduceEqDiff, ne_eq, not_false_eq_true, Nat.reduceEqDiff, not_true_eq_false, d1, e1, e2, fX3_readTerm_p50, fX3_readTerm_p61, fX3_readTerm_p70, fX3_readTerm_p79, e3]
theorem t_readTerm (hs : tStr Γ m h) {k p : Nat} (hX : k < 4 → ∀ p, p ≤ len → tFc Γ m h T len f (X m) (k + 1) p (G (k + 1) p)) (hG : ∀ k p, k ≤ 4 → p ≤ len → gOk len p (G k p)) (hf : f + 1400 < 5604) (hk : k ≤ 4) : tFc Γ m h T len f (fX3_readTerm X m) k p (gTrm T len G k p) := by
  intro I A Z n ts0 H h20 h21 hF hb
  have h9 : len ≤ 900 := H.2.2.2.2.2
  have hp : p ≤ len := H.2.2.2.2.1
  have d1 : ¬ Int32.ofNat 1 = Int32.ofNat 0 := by decide
  obtain ⟨J, R, e1, r1, o1⟩ := t_readFactor (p := p) hs hX hG hf hk I A Z n ts0 H h20 h21 hF hb
  have b1 := gFac_ok (T := T) (k := k) hG hp
  unfold gTrm gOps
  cases hc : gFac T len G k p with
  | inl e =>
    rw [hc] at o1 b1
    have g1 := o1.fail (Nat.le_trans b1.1 h9)
    have e2 := t_hasFailed1 (Γ := Γ) (n := n) (m := m) (A := va_up A 6 R) (S := Z) (h := h) g1
    obtain ⟨fu, hfu⟩ : ∃ g, xFU = g + 1 := ⟨999999, rfl⟩
    have e3 : fX3_readTerm_p17 X xFU m (Int32.ofNat 0) Γ (tw m J (va_up A 6 R) Z h) n = some (.inl (), tw m J (va_up A 6 R) Z h, 0, 0) := by
      rw [hfu, fX3_readTerm_p17]
      simp (maxDischargeDepth := 9) only [xbind, xlet, xpure, tw_sel, tg_0, tg_4, tg_9, tg_12, tg_13, tg_14, tg_15, tg_16, tg_17, tg_18, tg_19, tg_20, tg_21, tg_24, tr_1, tr_2, tr_3, tr_5, tr_6, tr_7, tr_8, tr_10, tr_11, tr_22, tr_23, tp_0, tp_4, tp_9, tp_12, tp_13, tp_14, tp_15, tp_16, tp_17, tp_18, tp_19, tp_20, tp_21, tp_24, va_up_self, va_up_ne, va_uu, i_ofNat, i_add, i_mul, Nat.add_zero, Nat.zero_add, reduceIte, if_true, if_false, Nat.reduceEqDiff, ne_eq, not_false_eq_true, Nat.reduceEqDiff, not_true_eq_false]
    refine ⟨J, R, ?_, r1, o1⟩
    simp (maxDischargeDepth := 9) only [fX3_readTerm, fX3_readTerm_p16, xbind, xlet, xpure, tw_sel, tg_0, tg_4, tg_9, tg_12, tg_13, tg_14, tg_15, tg_16, tg_17, tg_18, tg_19, tg_20, tg_21, tg_24, tr_1, tr_2, tr_3, tr_5, tr_6, tr_7, tr_8, tr_10, tr_11, tr_22, tr_23, tp_0, tp_4, tp_9, tp_12, tp_13, tp_14, tp_15, tp_16, tp_17, tp_18, tp_19, tp_20, tp_21, tp_24, va_up_self, va_up_ne, va_uu, i_ofNat, i_add, i_mul, Nat.add_zero, Nat.zero_add, reduceIte, if_true, if_false, Nat.reduceEqDiff, ne_eq, not_false_eq_true, Nat.reduceEqDiff, not_true_eq_false, e1, e2, d1, e3]
  | inr r =>
    obtain ⟨p2, ts2⟩ := r
    rw [hc] at o1 b1
    obtain ⟨o1, F1⟩ := o1
    obtain ⟨b1, b2, b3, b4⟩ := b1
    have H1 : tPs T len J (va_up A 6 R) p2 := H.ok o1 b2 a68
    have e2 := t_hasFailed0 (Γ := Γ) (n := n) (m := m) (A := va_up A 6 R) (S := Z) (h := h) H1.2.2.1
    have tl1 := tlen_app ts0 ts2
    obtain ⟨K, Q, e3, r3, o3⟩ := t_termLoop hs hX hG hf hk (len + 1 - p2) p2 xFU ts2 ts0 J (va_up A 6 R) Z n (by omega) (by unfold xFU; omega) H1 (by rw [o1.2 20 (by decide) (by decide)]; exact h20) (by rw [o1.2 21 (by decide) (by decide)]; exact h21) (by rw [va_up_self]; exact F1) (by omega)
    rw [va_uu] at e3
    rw [va_up_self] at r3
    refine ⟨K, Q, ?_, fun j hj => (r3 j hj).trans (r1 j hj), ?_⟩
    · simp (maxDischargeDepth := 9) only [fX3_readTerm, fX3_readTerm_p16, xbind, xlet, xpure, tw_sel, tg_0, tg_4, tg_9, tg_12, tg_13, tg_14, tg_15, tg_16, tg_17, tg_18, tg_19, tg_20, tg_21, tg_24, tr_1, tr_2, tr_3, tr_5, tr_6, tr_7, tr_8, tr_10, tr_11, tr_22, tr_23, tp_0, tp_4, tp_9, tp_12, tp_13, tp_14, tp_15, tp_16, tp_17, tp_18, tp_19, tp_20, tp_21, tp_24, va_up_self, va_up_ne, va_uu, i_ofNat, i_add, i_mul, Nat.add_zero, Nat.zero_add, reduceIte, if_true, if_false, Nat.reduceEqDiff, ne_eq, not_false_eq_true, Nat.reduceEqDiff, not_true_eq_false, e1, e2, e3]
    · dsimp only
      generalize gLoop T len 42 7 47 8 (gFac T len G k) (len + 1 - p2) p2 ts2 = z at o3 ⊢
      rcases z with e | ⟨p', ts'⟩
      · exact o1.er o3
      · exact ⟨o1.trans o3.1, o3.2⟩
theorem t_sumLoop (hs : tStr Γ m h) {k : Nat} (hX : k < 4 → ∀ p, p ≤ len → tFc Γ m h T len f (X m) (k + 1) p (G (k + 1) p)) (hG : ∀ k p, k ≤ 4 → p ≤ len → gOk len p (G k p)) (hf : f + 1400 < 5604) (hk : k ≤ 4) : ∀ (g p fu : Nat) (ts ts0 : List (Nat × Int32)) (I : Nat → Int32) (A : Nat → Nat → Int32) (Z : Nat → Int64) (n : Nat), len < p + g → g + 3 < fu → tPs T len I A p → I 20 = Int32.ofNat f → I 21 = Int32.ofNat k → tFm (A 6) f (ts0 ++ ts) → 2 * tlen (ts0 ++ ts) ≤ 3 * p + 1 →
    ∃ J R, fX3_readSum_p17 X fu m (Int32.ofNat 1) Γ (tw m I A Z h) n = some (.inl (), tw m J (va_up A 6 R) Z h, 0, 0) ∧ (∀ j, (j < f ∨ f + 1400 < j) → R j = A 6 j) ∧ (match gLoop T len 43 5 45 6 (gTrm T len G k) g p ts with
      | .inl e => tEr I J e
      | .inr (p', ts') => tOk I J p' ∧ tFm R f (ts0 ++ ts')) := by
  have d1 : ¬ Int32.ofNat 1 = Int32.ofNat 0 := by decide
  have l0 : ∀ (fu : Nat) (I : Nat → Int32) (A : Nat → Nat → Int32) (Z : Nat → Int64) (n : Nat), 0 < fu → fX3_readSum_p17 X fu m (Int32.ofNat 0) Γ (tw m I A Z h) n = some (.inl (), tw m I A Z h, 0, 0) := by
    intro fu I A Z n hfu
    obtain ⟨fu, rfl⟩ : ∃ g, fu = g + 1 := ⟨fu - 1, by omega⟩
    rw [fX3_readSum_p17]
    simp (maxDischargeDepth := 9) only [xbind, xlet, xpure, tw_sel, tg_0, tg_4, tg_9, tg_12, tg_13, tg_14, tg_15, tg_16, tg_17, tg_18, tg_19, tg_20, tg_21, tg_24, tr_1, tr_2, tr_3, tr_5, tr_6, tr_7, tr_8, tr_10, tr_11, tr_22, tr_23, tp_0, tp_4, tp_9, tp_12, tp_13, tp_14, tp_15, tp_16, tp_17, tp_18, tp_19, tp_20, tp_21, tp_24, va_up_self, va_up_ne, va_uu, i_ofNat, i_add, i_mul, Nat.add_zero, Nat.zero_add, reduceIte, if_true, if_false, Nat.reduceEqDiff, ne_eq, not_false_eq_true, Nat.reduceEqDiff, not_true_eq_false]
  have lF : ∀ (fu : Nat) (I : Nat → Int32) (A : Nat → Nat → Int32) (Z : Nat → Int64) (n : Nat), 1 < fu → ¬ I 16 = -Int32.ofNat 1 → fX3_readSum_p17 X fu m (Int32.ofNat 1) Γ (tw m I A Z h) n = some (.inl (), tw m I A Z h, 0, 0) := by
    intro fu I A Z n hfu hI
    obtain ⟨fu, rfl⟩ : ∃ g, fu = g + 1 := ⟨fu - 1, by omega⟩
    have e1 := fun c => t_takesSignF (Γ := Γ) (n := n) (m := m) (A := A) (S := Z) (h := h) (c := c) hI
    have e2 := l0 fu I A Z n (by omega)
    rw [fX3_readSum_p17]
    simp (maxDischargeDepth := 9) only [xbind, xlet, xpure, tw_sel, tg_0, tg_4, tg_9, tg_12, tg_13, tg_14, tg_15, tg_16, tg_17, tg_18, tg_19, tg_20, tg_21, tg_24, tr_1, tr_2, tr_3, tr_5, tr_6, tr_7, tr_8, tr_10, tr_11, tr_22, tr_23, tp_0, tp_4, tp_9, tp_12, tp_13, tp_14, tp_15, tp_16, tp_17, tp_18, tp_19, tp_20, tp_21, tp_24, va_up_self, va_up_ne, va_uu, i_ofNat, i_add, i_mul, Nat.add_zero, Nat.zero_add, reduceIte, if_true, if_false, Nat.reduceEqDiff, ne_eq, not_false_eq_true, Nat.reduceEqDiff, not_true_eq_false, d1, e1, fX3_readSum_p49, fX3_readSum_p60, fX3_readSum_p69, fX3_readSum_p78, e2]
  intro g
  induction g with
  | zero => intro p fu ts ts0 I A Z n a b c; exact absurd c.2.2.2.2.1 (by omega)
  | succ g ih =>
    intro p fu ts ts0 I A Z n hlen hfu H h20 h21 hF hb
    obtain ⟨fu, rfl⟩ : ∃ g, fu = g + 1 := ⟨fu - 1, by omega⟩
    have h9 : len ≤ 900 := H.2.2.2.2.2
    have hp : p ≤ len := H.2.2.2.2.1
    have q0 := gBl_ge (T := T) (len := len) (p := p)
    have q1 := gBl_le (T := T) hp
    have qi := gBl_idem (T := T) (len := len) (p := p)
    obtain ⟨J, e1, o1, b1⟩ := t_takesSign (Γ := Γ) (n := n) (m := m) (S := Z) (h := h) (c := 43) H
    have step : ∀ (op : Nat) (J : Nat → Int32), 5 ≤ op → op ≤ 10 → gBl T len p + 1 ≤ len → tOk I J (gBl T len p + 1) → ∃ K R, fX3_readSum_p49 X (fX3_readSum_p17 X fu) m (Int32.ofNat op) Γ (tw m J A Z h) n = some (.inl (), tw m K (va_up A 6 R) Z h, 0, 0) ∧ (∀ j, (j < f ∨ f + 1400 < j) → R j = A 6 j) ∧ (match (match gTrm T len G k (gBl T len p + 1) with
        | .inl e => (.inl e : gR)
        | .inr (p2, ts2) => gLoop T len 43 5 45 6 (gTrm T len G k) g p2 (ts ++ (ts2 ++ [(op, 0)]))) with
      | .inl e => tEr I K e
      | .inr (p', ts') => tOk I K p' ∧ tFm R f (ts0 ++ ts')) := by
      intro op J h5 h10 hl o1
      have c1 : ¬ Int32.ofNat op = -Int32.ofNat 1 := by
        intro z
        have z1 := congrArg Int32.toInt z
        rw [i_toInt (by omega)] at z1
        have z2 : (-Int32.ofNat 1).toInt = -1 := by decide
        omega
      have H1 := H.ok (B := A) o1 hl rfl
      have i20 : J 20 = Int32.ofNat f := by rw [o1.2 20 (by decide) (by decide)]; exact h20
      have i21 : J 21 = Int32.ofNat k := by rw [o1.2 21 (by decide) (by decide)]; exact h21
      obtain ⟨J2, R2, e2, r2, o2⟩ := t_readTerm (p := gBl T len p + 1) hs hX hG hf hk J A Z n (ts0 ++ ts) H1 i20 i21 hF (by omega)
      have b1 := gTrm_ok (T := T) (k := k) hG hl
      cases hc : gTrm T len G k (gBl T len p + 1) with
      | inl e =>
        rw [hc] at o2 b1
        have g2 := o2.fail (Nat.le_trans b1.1 h9)
        have e3 := t_putsF (Γ := Γ) (n := n) (m := m) (A := va_up A 6 R2) (S := Z) (h := h) (v := Int32.ofNat op) g2
        have e4 := lF fu J2 (va_up A 6 R2) Z n (by omega) g2
        refine ⟨J2, R2, ?_, r2, o1.er o2⟩
        simp (maxDischargeDepth := 9) only [xbind, xlet, xpure, tw_sel, tg_0, tg_4, tg_9, tg_12, tg_13, tg_14, tg_15, tg_16, tg_17, tg_18, tg_19, tg_20, tg_21, tg_24, tr_1, tr_2, tr_3, tr_5, tr_6, tr_7, tr_8, tr_10, tr_11, tr_22, tr_23, tp_0, tp_4, tp_9, tp_12, tp_13, tp_14, tp_15, tp_16, tp_17, tp_18, tp_19, tp_20, tp_21, tp_24, va_up_self, va_up_ne, va_uu, i_ofNat, i_add, i_mul, Nat.add_zero, Nat.zero_add, reduceIte, if_true, if_false, Nat.reduceEqDiff, ne_eq, not_false_eq_true, Nat.reduceEqDiff, not_true_eq_false, fX3_readSum_p49, fX3_readSum_p60, fX3_readSum_p69, fX3_readSum_p78, c1, d1, e2, e3, e4]
      | inr r =>
        obtain ⟨p2, ts2⟩ := r
        rw [hc] at o2 b1
        obtain ⟨o2, F2⟩ := o2
        obtain ⟨b1, b2, b3, b4⟩ := b1
        have H2 : tPs T len J2 (va_up A 6 R2) p2 := H1.ok o2 b2 a68
        have j20 : J2 20 = Int32.ofNat f := by rw [o2.2 20 (by decide) (by decide)]; exact i20
        have j21 : J2 21 = Int32.ofNat k := by rw [o2.2 21 (by decide) (by decide)]; exact i21
        have tl1 := tlen_app (ts0 ++ ts) ts2
        have tl2 := tlen_app (ts0 ++ ts ++ ts2) [(op, (0 : Int32))]
        have tl3 : tlen [(op, (0 : Int32))] = 1 := by unfold tlen; rw [if_neg (by omega)]; rfl
        obtain ⟨R3, e3, r3, F3⟩ := t_put (Γ := Γ) (n := n) (m := m) (I := J2) (A := va_up A 6 R2) (S := Z) (h := h) (k := op) (ts := ts0 ++ ts ++ ts2) H2.2.2.1 j20 (by rw [va_up_self]; exact F2) (by omega) hf (by omega) h10
        rw [va_uu] at e3
        rw [va_up_self] at r3
        have aa : ts0 ++ (ts ++ (ts2 ++ [(op, (0 : Int32))])) = ts0 ++ ts ++ ts2 ++ [(op, (0 : Int32))] := by simp only [List.append_assoc]
        obtain ⟨J4, R4, e4, r4, o4⟩ := ih p2 fu (ts ++ (ts2 ++ [(op, 0)])) ts0 J2 (va_up A 6 R3) Z n (by omega) (by omega) (H1.ok o2 b2 a68) j20 j21 (by rw [va_up_self, aa]; exact F3) (by rw [aa]; omega)
        rw [va_uu] at e4
        rw [va_up_self] at r4
        refine ⟨J4, R4, ?_, fun j hj => (r4 j hj).trans ((r3 j hj).trans ((by rw [va_up_self] : (va_up A 6 R2 6) j = R2 j) ▸ r2 j hj)), ?_⟩
        · simp (maxDischargeDepth := 9) only [xbind, xlet, xpure, tw_sel, tg_0, tg_4, tg_9, tg_12, tg_13, tg_14, tg_15, tg_16, tg_17, tg_18, tg_19, tg_20, tg_21, tg_24, tr_1, tr_2, tr_3, tr_5, tr_6, tr_7, tr_8, tr_10, tr_11, tr_22, tr_23, tp_0, tp_4, tp_9, tp_12, tp_13, tp_14, tp_15, tp_16, tp_17, tp_18, tp_19, tp_20, tp_21, tp_24, va_up_self, va_up_ne, va_uu, i_ofNat, i_add, i_mul, Nat.add_zero, Nat.zero_add, reduceIte, if_true, if_false, Nat.reduceEqDiff, ne_eq, not_false_eq_true, Nat.reduceEqDiff, not_true_eq_false, fX3_readSum_p49, fX3_readSum_p60, fX3_readSum_p69, fX3_readSum_p78, c1, d1, e2, e3, e4]
        · dsimp only
          generalize gLoop T len 43 5 45 6 (gTrm T len G k) g p2 (ts ++ (ts2 ++ [(op, 0)])) = z at o4 ⊢
          rcases z with e | ⟨p', ts'⟩
          · exact o1.er (o2.er o4)
          · exact ⟨o1.trans (o2.trans o4.1), o4.2⟩
    rw [gLoop, fX3_readSum_p17]
    cases hc : pAt T len (gBl T len p) (Int32.ofNat 43) (Int32.ofNat 43) with
    | true =>
      rw [hc, b2i_t] at e1
      rw [hc, if_pos rfl] at o1
      rw [if_pos rfl]
      obtain ⟨K, R, e2, r2, o2⟩ := step 5 J (by decide) (by decide) (pAt_iff.mp hc).1 o1
      refine ⟨K, R, ?_, r2, o2⟩
      simp (maxDischargeDepth := 9) only [xbind, xlet, xpure, tw_sel, tg_0, tg_4, tg_9, tg_12, tg_13, tg_14, tg_15, tg_16, tg_17, tg_18, tg_19, tg_20, tg_21, tg_24, tr_1, tr_2, tr_3, tr_5, tr_6, tr_7, tr_8, tr_10, tr_11, tr_22, tr_23, tp_0, tp_4, tp_9, tp_12, tp_13, tp_14, tp_15, tp_16, tp_17, tp_18, tp_19, tp_20, tp_21, tp_24, va_up_self, va_up_ne, va_uu, i_ofNat, i_add, i_mul, Nat.add_zero, Nat.zero_add, reduceIte, if_true, if_false, Nat.reduceEqDiff, ne_eq, not_false_eq_true, Nat.reduceEqDiff, not_true_eq_false, d1, e1, e2]
    | false =>
      rw [hc, b2i_f] at e1
      rw [hc, if_neg (by decide)] at o1
      rw [if_neg (by decide)]
      have H1 := H.ok (B := A) o1 q1 rfl
      obtain ⟨J2, e2, o2, b2⟩ := t_takesSign (Γ := Γ) (n := n) (m := m) (S := Z) (h := h) (c := 45) H1
      rw [qi] at e2 o2 b2
      cases hc2 : pAt T len (gBl T len p) (Int32.ofNat 45) (Int32.ofNat 45) with
      | true =>
        rw [hc2, b2i_t] at e2
        rw [hc2, if_pos rfl] at o2
        rw [if_pos rfl]
        obtain ⟨K, R, e3, r3, o3⟩ := step 6 J2 (by decide) (by decide) (pAt_iff.mp hc2).1 (o1.trans o2)
        refine ⟨K, R, ?_, r3, o3⟩
        simp (maxDischargeDepth := 9) only [xbind, xlet, xpure, tw_sel, tg_0, tg_4, tg_9, tg_12, tg_13, tg_14, tg_15, tg_16, tg_17, tg_18, tg_19, tg_20, tg_21, tg_24, tr_1, tr_2, tr_3, tr_5, tr_6, tr_7, tr_8, tr_10, tr_11, tr_22, tr_23, tp_0, tp_4, tp_9, tp_12, tp_13, tp_14, tp_15, tp_16, tp_17, tp_18, tp_19, tp_20, tp_21, tp_24, va_up_self, va_up_ne, va_uu, i_ofNat, i_add, i_mul, Nat.add_zero, Nat.zero_add, reduceIte, if_true, if_false, Nat.reduceEqDiff, ne_eq, not_false_eq_true, Nat.reduceEqDiff, not_true_eq_false, d1, e1, e2, e3]
      | false =>
        rw [hc2, b2i_f] at e2
        rw [hc2, if_neg (by decide)] at o2
        rw [if_neg (by decide)]
        have e3 := l0 fu J2 A Z n (by omega)
        refine ⟨J2, A 6, ?_, fun _ _ => rfl, o1.trans o2, hF⟩
        rw [va_id]
        simp (maxDischargeDepth := 9) only [xbind, xlet, xpure, tw_sel, tg_0, tg_4, tg_9, tg_12, tg_13, tg_14, tg_15, tg_16, tg_17, tg_18, tg_19, tg_20, tg_21, tg_24, tr_1, tr_2, tr_3, tr_5, tr_6, tr_7, tr_8, tr_10, tr_11, tr_22, tr_23, tp_0, tp_4, tp_9, tp_12, tp_13, tp_14, tp_15, tp_16, tp_17, tp_18, tp_19, tp_20, tp_21, tp_24, va_up_self, va_up_ne, va_uu, i_ofNat, i_add, i_mul, Nat.add_zero, Nat.zero_add, reduceIte, if_true, if_false, Nat.reduceEqDiff, ne_eq, not_false_eq_true, Nat.reduceEqDiff, not_true_eq_false, d1, e1, e2, fX3_readSum_p49, fX3_readSum_p60, fX3_readSum_p69, fX3_readSum_p78, e3]
theorem t_readSumB (hs : tStr Γ m h) {k p : Nat} (hX : k < 4 → ∀ p, p ≤ len → tFc Γ m h T len f (X m) (k + 1) p (G (k + 1) p)) (hG : ∀ k p, k ≤ 4 → p ≤ len → gOk len p (G k p)) (hf : f + 1400 < 5604) (hk : k ≤ 4) : tFc Γ m h T len f (fX3_readSum_b X m) k p (gSum T len G k p) := by
  intro I A Z n ts0 H h20 h21 hF hb
  have h9 : len ≤ 900 := H.2.2.2.2.2
  have hp : p ≤ len := H.2.2.2.2.1
  have d1 : ¬ Int32.ofNat 1 = Int32.ofNat 0 := by decide
  obtain ⟨J, R, e1, r1, o1⟩ := t_readTerm (p := p) hs hX hG hf hk I A Z n ts0 H h20 h21 hF hb
  have b1 := gTrm_ok (T := T) (k := k) hG hp
  unfold gSum gOps
  cases hc : gTrm T len G k p with
  | inl e =>
    rw [hc] at o1 b1
    have g1 := o1.fail (Nat.le_trans b1.1 h9)
    have e2 := t_hasFailed1 (Γ := Γ) (n := n) (m := m) (A := va_up A 6 R) (S := Z) (h := h) g1
    obtain ⟨fu, hfu⟩ : ∃ g, xFU = g + 1 := ⟨999999, rfl⟩
    have e3 : fX3_readSum_p17 X xFU m (Int32.ofNat 0) Γ (tw m J (va_up A 6 R) Z h) n = some (.inl (), tw m J (va_up A 6 R) Z h, 0, 0) := by
      rw [hfu, fX3_readSum_p17]
      simp (maxDischargeDepth := 9) only [xbind, xlet, xpure, tw_sel, tg_0, tg_4, tg_9, tg_12, tg_13, tg_14, tg_15, tg_16, tg_17, tg_18, tg_19, tg_20, tg_21, tg_24, tr_1, tr_2, tr_3, tr_5, tr_6, tr_7, tr_8, tr_10, tr_11, tr_22, tr_23, tp_0, tp_4, tp_9, tp_12, tp_13, tp_14, tp_15, tp_16, tp_17, tp_18, tp_19, tp_20, tp_21, tp_24, va_up_self, va_up_ne, va_uu, i_ofNat, i_add, i_mul, Nat.add_zero, Nat.zero_add, reduceIte, if_true, if_false, Nat.reduceEqDiff, ne_eq, not_false_eq_true, Nat.reduceEqDiff, not_true_eq_false]
    refine ⟨J, R, ?_, r1, o1⟩
    simp (maxDischargeDepth := 9) only [fX3_readSum_b, fX3_readSum_p16, xbind, xlet, xpure, tw_sel, tg_0, tg_4, tg_9, tg_12, tg_13, tg_14, tg_15, tg_16, tg_17, tg_18, tg_19, tg_20, tg_21, tg_24, tr_1, tr_2, tr_3, tr_5, tr_6, tr_7, tr_8, tr_10, tr_11, tr_22, tr_23, tp_0, tp_4, tp_9, tp_12, tp_13, tp_14, tp_15, tp_16, tp_17, tp_18, tp_19, tp_20, tp_21, tp_24, va_up_self, va_up_ne, va_uu, i_ofNat, i_add, i_mul, Nat.add_zero, Nat.zero_add, reduceIte, if_true, if_false, Nat.reduceEqDiff, ne_eq, not_false_eq_true, Nat.reduceEqDiff, not_true_eq_false, e1, e2, d1, e3]
  | inr r =>
    obtain ⟨p2, ts2⟩ := r
    rw [hc] at o1 b1
    obtain ⟨o1, F1⟩ := o1
    obtain ⟨b1, b2, b3, b4⟩ := b1
    have H1 : tPs T len J (va_up A 6 R) p2 := H.ok o1 b2 a68
    have e2 := t_hasFailed0 (Γ := Γ) (n := n) (m := m) (A := va_up A 6 R) (S := Z) (h := h) H1.2.2.1
    have tl1 := tlen_app ts0 ts2
    obtain ⟨K, Q, e3, r3, o3⟩ := t_sumLoop hs hX hG hf hk (len + 1 - p2) p2 xFU ts2 ts0 J (va_up A 6 R) Z n (by omega) (by unfold xFU; omega) H1 (by rw [o1.2 20 (by decide) (by decide)]; exact h20) (by rw [o1.2 21 (by decide) (by decide)]; exact h21) (by rw [va_up_self]; exact F1) (by omega)
    rw [va_uu] at e3
    rw [va_up_self] at r3
    refine ⟨K, Q, ?_, fun j hj => (r3 j hj).trans (r1 j hj), ?_⟩
    · simp (maxDischargeDepth := 9) only [fX3_readSum_b, fX3_readSum_p16, xbind, xlet, xpure, tw_sel, tg_0, tg_4, tg_9, tg_12, tg_13, tg_14, tg_15, tg_16, tg_17, tg_18, tg_19, tg_20, tg_21, tg_24, tr_1, tr_2, tr_3, tr_5, tr_6, tr_7, tr_8, tr_10, tr_11, tr_22, tr_23, tp_0, tp_4, tp_9, tp_12, tp_13, tp_14, tp_15, tp_16, tp_17, tp_18, tp_19, tp_20, tp_21, tp_24, va_up_self, va_up_ne, va_uu, i_ofNat, i_add, i_mul, Nat.add_zero, Nat.zero_add, reduceIte, if_true, if_false, Nat.reduceEqDiff, ne_eq, not_false_eq_true, Nat.reduceEqDiff, not_true_eq_false, e1, e2, e3]
    · dsimp only
      generalize gLoop T len 43 5 45 6 (gTrm T len G k) (len + 1 - p2) p2 ts2 = z at o3 ⊢
      rcases z with e | ⟨p', ts'⟩
      · exact o1.er o3
      · exact ⟨o1.trans o3.1, o3.2⟩
theorem t_readSum (hs : tStr Γ m h) (hf : f + 1400 < 5604) : ∀ (d k p : Nat), k ≤ 4 → 5 ≤ d + k → p ≤ len → tFc Γ m h T len f (fX3_readSum d m) k p (gSumD T len d k p) := by
  intro d
  induction d with
  | zero => intro k p h4 h5; omega
  | succ d ih =>
    intro k p h4 h5 hp
    exact t_readSumB (X := fX3_readSum d) (G := gSumD T len d) hs (fun hk p hp => ih (k + 1) p (by omega) (by omega) hp) (fun k p _ hp => gSumD_ok d k p hp) hf h4
end TP9
