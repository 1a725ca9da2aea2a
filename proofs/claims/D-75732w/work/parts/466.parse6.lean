/-! part 466: the twin's parser: formulas -/
theorem x_b1 {α β : Type} {f : xM α} {k : α → xM β} {Γ : Nat → Option Nat} {h h1 : xH} {n : Nat} {a : α} (e : f Γ h n = some (.inl a, h1, 0, 0)) : xbind f k Γ h n = k a Γ h1 n := by
  unfold xbind
  rw [e]
  simp only [Nat.add_zero, Nat.zero_add]
  cases k a Γ h1 n <;> rfl
theorem tOp.er {I J K : Nat → Int32} {p k : Nat} {e : Nat × Nat} (a : tOp I J p k) (b : tEr J K e) : tEr I K e := ⟨b.1, b.2.1, fun j h1 h2 h3 h4 h5 => (b.2.2 j h1 h2 h3 h4 h5).trans (a.2.2 j h1 h2 h5)⟩
theorem tPs.op {T : Nat → Int32} {len p p' k : Nat} {I J : Nat → Int32} {A B : Nat → Nat → Int32} (H : tPs T len I A p) (o : tOp I J p' k) (h : p' ≤ len) (hB : B 8 = A 8) : tPs T len J B p' := by
  obtain ⟨h1, h2, h3, h4, h5, h6⟩ := H
  exact ⟨o.1, by rw [o.2.2 15 (by decide) (by decide) (by decide)]; exact h2, by rw [o.2.2 16 (by decide) (by decide) (by decide)]; exact h3, hB.trans h4, h, h6⟩
theorem a68 {A : Nat → Nat → Int32} {R : Nat → Int32} : va_up A 6 R 8 = A 8 := va_up_ne _ _ (by decide)
section TP7
variable {Γ : Nat → Option Nat} {m : Nat} {h : xH} {T : Nat → Int32} {len f : Nat} {X : Nat → xM Unit} {G : Nat → Nat → gR}
theorem t_readPair {op k p : Nat} (hX : k < 4 → ∀ p, p ≤ len → tFc Γ m h T len f (X m) (k + 1) p (G (k + 1) p)) (hG : ∀ k p, k ≤ 4 → p ≤ len → gOk len p (G k p)) (hf : f + 1400 < 5604) (h5 : 5 ≤ op) (h10 : op ≤ 10) (hk : k ≤ 4) : tFc Γ m h T len f (fX3_readPair X m (Int32.ofNat op)) k p (gPair T len G op k p) := by
  intro I A Z n ts0 H h20 h21 hF hb
  have h9 : len ≤ 900 := H.2.2.2.2.2
  have d1 : ¬ Int32.ofNat 1 = Int32.ofNat 0 := by decide
  have fl := fun (I' : Nat → Int32) (A' : Nat → Nat → Int32) (hI : ¬ I' 16 = -Int32.ofNat 1) => t_hasFailed1 (Γ := Γ) (n := n) (m := m) (A := A') (S := Z) (h := h) hI
  have nf := fun (I' : Nat → Int32) (A' : Nat → Nat → Int32) (hI : I' 16 = -Int32.ofNat 1) => t_hasFailed0 (Γ := Γ) (n := n) (m := m) (A := A') (S := Z) (h := h) hI
  obtain ⟨J1, e1, o1⟩ := t_opensBracket (Γ := Γ) (n := n) (m := m) (S := Z) (h := h) H h21 hk
  unfold gPair
  cases h1 : gOpen T len k p with
  | inl e =>
    rw [h1] at o1
    have g := gOpen_er H.2.2.2.2.1 h1
    refine ⟨J1, A 6, ?_, fun _ _ => rfl, o1⟩
    rw [va_id]
    simp (maxDischargeDepth := 9) only [fX3_readPair, xbind, xlet, xpure, tw_sel, tg_0, tg_4, tg_9, tg_12, tg_13, tg_14, tg_15, tg_16, tg_17, tg_18, tg_19, tg_20, tg_21, tg_24, tr_1, tr_2, tr_3, tr_5, tr_6, tr_7, tr_8, tr_10, tr_11, tr_22, tr_23, tp_0, tp_4, tp_9, tp_12, tp_13, tp_14, tp_15, tp_16, tp_17, tp_18, tp_19, tp_20, tp_21, tp_24, va_up_self, va_up_ne, va_uu, i_ofNat, i_add, i_mul, Nat.add_zero, Nat.zero_add, reduceIte, if_true, if_false, Nat.reduceEqDiff, ne_eq, not_false_eq_true, Nat.reduceEqDiff, not_true_eq_false, e1, fl J1 _ (o1.fail (by omega)), d1]
  | inr p1 =>
    rw [h1] at o1
    have a1 := gOpen_ok h1
    have a2 := H.2.2.2.2.1
    have H1 : tPs T len J1 A p1 := H.op o1 (by omega) rfl
    have i20 : J1 20 = Int32.ofNat f := by rw [o1.2.2 20 (by decide) (by decide) (by decide)]; exact h20
    have g1 := nf J1 A H1.2.2.1
    obtain ⟨J2, R2, e2, r2, o2⟩ := hX (by omega) p1 (by omega) J1 A Z n ts0 H1 i20 o1.2.1 hF (by omega)
    have b1 := hG (k + 1) p1 (by omega) (by omega)
    dsimp only
    cases h2 : G (k + 1) p1 with
    | inl e =>
      rw [h2] at o2 b1
      have g2 := o2.fail (Nat.le_trans b1.1 h9)
      have e3 := t_needsF (Γ := Γ) (n := n) (m := m) (A := va_up A 6 R2) (S := Z) (h := h) (c := Int32.ofNat 44) g2
      refine ⟨J2, R2, ?_, r2, o1.er o2⟩
      simp (maxDischargeDepth := 9) only [fX3_readPair, xbind, xlet, xpure, tw_sel, tg_0, tg_4, tg_9, tg_12, tg_13, tg_14, tg_15, tg_16, tg_17, tg_18, tg_19, tg_20, tg_21, tg_24, tr_1, tr_2, tr_3, tr_5, tr_6, tr_7, tr_8, tr_10, tr_11, tr_22, tr_23, tp_0, tp_4, tp_9, tp_12, tp_13, tp_14, tp_15, tp_16, tp_17, tp_18, tp_19, tp_20, tp_21, tp_24, va_up_self, va_up_ne, va_uu, i_ofNat, i_add, i_mul, Nat.add_zero, Nat.zero_add, reduceIte, if_true, if_false, Nat.reduceEqDiff, ne_eq, not_false_eq_true, Nat.reduceEqDiff, not_true_eq_false, e1, g1, e2, e3, fl J2 _ g2, d1]
    | inr r =>
      obtain ⟨p2, ts1⟩ := r
      rw [h2] at o2 b1
      obtain ⟨o2, F2⟩ := o2
      obtain ⟨b1, b2, b3, b4⟩ := b1
      have H2 : tPs T len J2 (va_up A 6 R2) p2 := H1.ok o2 b2 a68
      have j20 : J2 20 = Int32.ofNat f := by rw [o2.2 20 (by decide) (by decide)]; exact i20
      have j21 : J2 21 = Int32.ofNat (k + 1) := by rw [o2.2 21 (by decide) (by decide)]; exact o1.2.1
      dsimp only
      cases h3 : gSg T len 44 p2 with
      | inl e =>
        obtain ⟨J3, e3, o3⟩ := t_needs0 (Γ := Γ) (n := n) (m := m) (S := Z) (h := h) H2 h3
        have g3 := o3.fail (Nat.le_trans (gSg_er b2 h3).1 h9)
        refine ⟨J3, R2, ?_, r2, o1.er (o2.er o3)⟩
        simp (maxDischargeDepth := 9) only [fX3_readPair, xbind, xlet, xpure, tw_sel, tg_0, tg_4, tg_9, tg_12, tg_13, tg_14, tg_15, tg_16, tg_17, tg_18, tg_19, tg_20, tg_21, tg_24, tr_1, tr_2, tr_3, tr_5, tr_6, tr_7, tr_8, tr_10, tr_11, tr_22, tr_23, tp_0, tp_4, tp_9, tp_12, tp_13, tp_14, tp_15, tp_16, tp_17, tp_18, tp_19, tp_20, tp_21, tp_24, va_up_self, va_up_ne, va_uu, i_ofNat, i_add, i_mul, Nat.add_zero, Nat.zero_add, reduceIte, if_true, if_false, Nat.reduceEqDiff, ne_eq, not_false_eq_true, Nat.reduceEqDiff, not_true_eq_false, e1, g1, e2, e3, fl J3 _ g3, d1]
      | inr p3 =>
        obtain ⟨J3, e3, o3⟩ := t_needs1 (Γ := Γ) (n := n) (m := m) (S := Z) (h := h) H2 h3
        have a3 := gSg_ok h3
        have H3 : tPs T len J3 (va_up A 6 R2) p3 := H2.ok o3 (by omega) rfl
        have k20 : J3 20 = Int32.ofNat f := by rw [o3.2 20 (by decide) (by decide)]; exact j20
        have k21 : J3 21 = Int32.ofNat (k + 1) := by rw [o3.2 21 (by decide) (by decide)]; exact j21
        have g3 := nf J3 (va_up A 6 R2) H3.2.2.1
        have tl1 := tlen_app ts0 ts1
        obtain ⟨J4, R4, e4, r4, o4⟩ := hX (by omega) p3 (by omega) J3 (va_up A 6 R2) Z n (ts0 ++ ts1) H3 k20 k21 (by rw [va_up_self]; exact F2) (by omega)
        rw [va_uu] at e4
        rw [va_up_self] at r4
        have c1 := hG (k + 1) p3 (by omega) (by omega)
        have r5 : ∀ j, (j < f ∨ f + 1400 < j) → R4 j = A 6 j := fun j hj => (r4 j hj).trans (r2 j hj)
        dsimp only
        cases h4 : G (k + 1) p3 with
        | inl e =>
          rw [h4] at o4 c1
          have g4 := o4.fail (Nat.le_trans c1.1 h9)
          have e5 := t_closesBracketF (Γ := Γ) (n := n) (m := m) (A := va_up A 6 R4) (S := Z) (h := h) g4
          have e6 := t_putsF (Γ := Γ) (n := n) (m := m) (I := va_up J4 21 (J4 21 - Int32.ofNat 1)) (A := va_up A 6 R4) (S := Z) (h := h) (v := Int32.ofNat op) (by rw [va_up_ne _ _ (by decide)]; exact g4)
          refine ⟨va_up J4 21 (J4 21 - Int32.ofNat 1), R4, ?_, r5, (o1.er (o2.er (o3.er o4))).depth _⟩
          simp (maxDischargeDepth := 9) only [fX3_readPair, xbind, xlet, xpure, tw_sel, tg_0, tg_4, tg_9, tg_12, tg_13, tg_14, tg_15, tg_16, tg_17, tg_18, tg_19, tg_20, tg_21, tg_24, tr_1, tr_2, tr_3, tr_5, tr_6, tr_7, tr_8, tr_10, tr_11, tr_22, tr_23, tp_0, tp_4, tp_9, tp_12, tp_13, tp_14, tp_15, tp_16, tp_17, tp_18, tp_19, tp_20, tp_21, tp_24, va_up_self, va_up_ne, va_uu, i_ofNat, i_add, i_mul, Nat.add_zero, Nat.zero_add, reduceIte, if_true, if_false, Nat.reduceEqDiff, ne_eq, not_false_eq_true, Nat.reduceEqDiff, not_true_eq_false, e1, g1, e2, e3, g3, e4, e5, e6]
        | inr r =>
          obtain ⟨p4, ts2⟩ := r
          rw [h4] at o4 c1
          obtain ⟨o4, F4⟩ := o4
          obtain ⟨c1, c2, c3, c4⟩ := c1
          have H4 : tPs T len J4 (va_up A 6 R4) p4 := H3.ok o4 c2 (a68.trans a68.symm)
          have l21 : J4 21 = Int32.ofNat (k + 1) := by rw [o4.2 21 (by decide) (by decide)]; exact k21
          obtain ⟨J5, e5, o5⟩ := t_closesBracket (Γ := Γ) (n := n) (m := m) (S := Z) (h := h) H4 l21
          dsimp only
          cases h5' : gSg T len 41 p4 with
          | inl e =>
            rw [h5'] at o5
            have g5 := o5.fail (Nat.le_trans (gSg_er c2 h5').1 h9)
            have e6 := t_putsF (Γ := Γ) (n := n) (m := m) (I := J5) (A := va_up A 6 R4) (S := Z) (h := h) (v := Int32.ofNat op) g5
            refine ⟨J5, R4, ?_, r5, o1.er (o2.er (o3.er (o4.er o5)))⟩
            simp (maxDischargeDepth := 9) only [fX3_readPair, xbind, xlet, xpure, tw_sel, tg_0, tg_4, tg_9, tg_12, tg_13, tg_14, tg_15, tg_16, tg_17, tg_18, tg_19, tg_20, tg_21, tg_24, tr_1, tr_2, tr_3, tr_5, tr_6, tr_7, tr_8, tr_10, tr_11, tr_22, tr_23, tp_0, tp_4, tp_9, tp_12, tp_13, tp_14, tp_15, tp_16, tp_17, tp_18, tp_19, tp_20, tp_21, tp_24, va_up_self, va_up_ne, va_uu, i_ofNat, i_add, i_mul, Nat.add_zero, Nat.zero_add, reduceIte, if_true, if_false, Nat.reduceEqDiff, ne_eq, not_false_eq_true, Nat.reduceEqDiff, not_true_eq_false, e1, g1, e2, e3, g3, e4, e5, e6]
          | inr p5 =>
            rw [h5'] at o5
            have a5 := gSg_ok h5'
            have tl2 := tlen_app (ts0 ++ ts1) ts2
            have m20 : J5 20 = Int32.ofNat f := by rw [o5.2.2 20 (by decide) (by decide) (by decide), o4.2 20 (by decide) (by decide)]; exact k20
            have H5 : tPs T len J5 (va_up A 6 R4) p5 := H4.op o5 (by omega) rfl
            obtain ⟨R6, e6, r6, F6⟩ := t_put (Γ := Γ) (n := n) (m := m) (I := J5) (A := va_up A 6 R4) (S := Z) (h := h) (k := op) (ts := ts0 ++ ts1 ++ ts2) H5.2.2.1 m20 (by rw [va_up_self]; exact F4) (by omega) hf (by omega) h10
            rw [va_uu] at e6
            rw [va_up_self] at r6
            refine ⟨J5, R6, ?_, fun j hj => (r6 j hj).trans (r5 j hj), ⟨o5.1, fun j a b => ?_⟩, ?_⟩
            · simp (maxDischargeDepth := 9) only [fX3_readPair, xbind, xlet, xpure, tw_sel, tg_0, tg_4, tg_9, tg_12, tg_13, tg_14, tg_15, tg_16, tg_17, tg_18, tg_19, tg_20, tg_21, tg_24, tr_1, tr_2, tr_3, tr_5, tr_6, tr_7, tr_8, tr_10, tr_11, tr_22, tr_23, tp_0, tp_4, tp_9, tp_12, tp_13, tp_14, tp_15, tp_16, tp_17, tp_18, tp_19, tp_20, tp_21, tp_24, va_up_self, va_up_ne, va_uu, i_ofNat, i_add, i_mul, Nat.add_zero, Nat.zero_add, reduceIte, if_true, if_false, Nat.reduceEqDiff, ne_eq, not_false_eq_true, Nat.reduceEqDiff, not_true_eq_false, e1, g1, e2, e3, g3, e4, e5, e6]
            · by_cases c21 : j = 21
              · subst c21
                rw [o5.2.1, h21]
              · rw [o5.2.2 j a b c21, o4.2 j a b, o3.2 j a b, o2.2 j a b, o1.2.2 j a b c21]
            · simpa only [List.append_assoc] using F6
theorem t_bra {k p : Nat} (hX : k < 4 → ∀ p, p ≤ len → tFc Γ m h T len f (X m) (k + 1) p (G (k + 1) p)) (hG : ∀ k p, k ≤ 4 → p ≤ len → gOk len p (G k p)) (hk : k ≤ 4) : tFc Γ m h T len f (xbind (xsel (some m) [(39, fun z => fX3_opensBracket z)]) fun _ => xbind (xsel (some m) [(39, fun z => fX3_hasFailed z)]) fun v60 => if v60 = 0 then (xbind (xsel (some m) [(39, fun z => X z)]) fun _ => xbind (xsel (some m) [(39, fun z => fX3_closesBracket z)]) fun _ => xpure ()) else xpure ()) k p (gBra T len G k p) := by
  intro I A Z n ts0 H h20 h21 hF hb
  have h9 : len ≤ 900 := H.2.2.2.2.2
  have d1 : ¬ Int32.ofNat 1 = Int32.ofNat 0 := by decide
  have fl := fun (I' : Nat → Int32) (A' : Nat → Nat → Int32) (hI : ¬ I' 16 = -Int32.ofNat 1) => t_hasFailed1 (Γ := Γ) (n := n) (m := m) (A := A') (S := Z) (h := h) hI
  have nf := fun (I' : Nat → Int32) (A' : Nat → Nat → Int32) (hI : I' 16 = -Int32.ofNat 1) => t_hasFailed0 (Γ := Γ) (n := n) (m := m) (A := A') (S := Z) (h := h) hI
  obtain ⟨J1, e1, o1⟩ := t_opensBracket (Γ := Γ) (n := n) (m := m) (S := Z) (h := h) H h21 hk
  unfold gBra
  cases h1 : gOpen T len k p with
  | inl e =>
    rw [h1] at o1
    have g := gOpen_er H.2.2.2.2.1 h1
    refine ⟨J1, A 6, ?_, fun _ _ => rfl, o1⟩
    rw [va_id]
    simp (maxDischargeDepth := 9) only [xbind, xlet, xpure, tw_sel, tg_0, tg_4, tg_9, tg_12, tg_13, tg_14, tg_15, tg_16, tg_17, tg_18, tg_19, tg_20, tg_21, tg_24, tr_1, tr_2, tr_3, tr_5, tr_6, tr_7, tr_8, tr_10, tr_11, tr_22, tr_23, tp_0, tp_4, tp_9, tp_12, tp_13, tp_14, tp_15, tp_16, tp_17, tp_18, tp_19, tp_20, tp_21, tp_24, va_up_self, va_up_ne, va_uu, i_ofNat, i_add, i_mul, Nat.add_zero, Nat.zero_add, reduceIte, if_true, if_false, Nat.reduceEqDiff, ne_eq, not_false_eq_true, Nat.reduceEqDiff, not_true_eq_false, e1, fl J1 _ (o1.fail (by omega)), d1]
  | inr p1 =>
    rw [h1] at o1
    have a1 := gOpen_ok h1
    have a2 := H.2.2.2.2.1
    have H1 : tPs T len J1 A p1 := H.op o1 (by omega) rfl
    have i20 : J1 20 = Int32.ofNat f := by rw [o1.2.2 20 (by decide) (by decide) (by decide)]; exact h20
    have g1 := nf J1 A H1.2.2.1
    obtain ⟨J2, R2, e2, r2, o2⟩ := hX (by omega) p1 (by omega) J1 A Z n ts0 H1 i20 o1.2.1 hF (by omega)
    have b1 := hG (k + 1) p1 (by omega) (by omega)
    dsimp only
    cases h2 : G (k + 1) p1 with
    | inl e =>
      rw [h2] at o2 b1
      have g2 := o2.fail (Nat.le_trans b1.1 h9)
      have e5 := t_closesBracketF (Γ := Γ) (n := n) (m := m) (A := va_up A 6 R2) (S := Z) (h := h) g2
      refine ⟨va_up J2 21 (J2 21 - Int32.ofNat 1), R2, ?_, r2, (o1.er o2).depth _⟩
      simp (maxDischargeDepth := 9) only [xbind, xlet, xpure, tw_sel, tg_0, tg_4, tg_9, tg_12, tg_13, tg_14, tg_15, tg_16, tg_17, tg_18, tg_19, tg_20, tg_21, tg_24, tr_1, tr_2, tr_3, tr_5, tr_6, tr_7, tr_8, tr_10, tr_11, tr_22, tr_23, tp_0, tp_4, tp_9, tp_12, tp_13, tp_14, tp_15, tp_16, tp_17, tp_18, tp_19, tp_20, tp_21, tp_24, va_up_self, va_up_ne, va_uu, i_ofNat, i_add, i_mul, Nat.add_zero, Nat.zero_add, reduceIte, if_true, if_false, Nat.reduceEqDiff, ne_eq, not_false_eq_true, Nat.reduceEqDiff, not_true_eq_false, e1, g1, e2, e5]
    | inr r =>
      obtain ⟨p2, ts1⟩ := r
      rw [h2] at o2 b1
      obtain ⟨o2, F2⟩ := o2
      obtain ⟨b1, b2, b3, b4⟩ := b1
      have H2 : tPs T len J2 (va_up A 6 R2) p2 := H1.ok o2 b2 a68
      have j21 : J2 21 = Int32.ofNat (k + 1) := by rw [o2.2 21 (by decide) (by decide)]; exact o1.2.1
      obtain ⟨J5, e5, o5⟩ := t_closesBracket (Γ := Γ) (n := n) (m := m) (S := Z) (h := h) H2 j21
      dsimp only
      cases h3 : gSg T len 41 p2 with
      | inl e =>
        rw [h3] at o5
        refine ⟨J5, R2, ?_, r2, o1.er (o2.er o5)⟩
        simp (maxDischargeDepth := 9) only [xbind, xlet, xpure, tw_sel, tg_0, tg_4, tg_9, tg_12, tg_13, tg_14, tg_15, tg_16, tg_17, tg_18, tg_19, tg_20, tg_21, tg_24, tr_1, tr_2, tr_3, tr_5, tr_6, tr_7, tr_8, tr_10, tr_11, tr_22, tr_23, tp_0, tp_4, tp_9, tp_12, tp_13, tp_14, tp_15, tp_16, tp_17, tp_18, tp_19, tp_20, tp_21, tp_24, va_up_self, va_up_ne, va_uu, i_ofNat, i_add, i_mul, Nat.add_zero, Nat.zero_add, reduceIte, if_true, if_false, Nat.reduceEqDiff, ne_eq, not_false_eq_true, Nat.reduceEqDiff, not_true_eq_false, e1, g1, e2, e5]
      | inr p3 =>
        rw [h3] at o5
        refine ⟨J5, R2, ?_, r2, ⟨o5.1, fun j a b => ?_⟩, F2⟩
        · simp (maxDischargeDepth := 9) only [xbind, xlet, xpure, tw_sel, tg_0, tg_4, tg_9, tg_12, tg_13, tg_14, tg_15, tg_16, tg_17, tg_18, tg_19, tg_20, tg_21, tg_24, tr_1, tr_2, tr_3, tr_5, tr_6, tr_7, tr_8, tr_10, tr_11, tr_22, tr_23, tp_0, tp_4, tp_9, tp_12, tp_13, tp_14, tp_15, tp_16, tp_17, tp_18, tp_19, tp_20, tp_21, tp_24, va_up_self, va_up_ne, va_uu, i_ofNat, i_add, i_mul, Nat.add_zero, Nat.zero_add, reduceIte, if_true, if_false, Nat.reduceEqDiff, ne_eq, not_false_eq_true, Nat.reduceEqDiff, not_true_eq_false, e1, g1, e2, e5]
        · by_cases c21 : j = 21
          · subst c21
            rw [o5.2.1, h21]
          · rw [o5.2.2 j a b c21, o2.2 j a b, o1.2.2 j a b c21]
/-- the twin's string constants -/
def tStr (Γ : Nat → Option Nat) (m : Nat) (h : xH) : Prop := (∃ a, Γ 117 = some a ∧ sT m h a w_year) ∧ (∃ a, Γ 118 = some a ∧ sT m h a w_species) ∧ (∃ a, Γ 119 = some a ∧ sT m h a w_survive) ∧ (∃ a, Γ 120 = some a ∧ sT m h a w_bear) ∧ (∃ a, Γ 121 = some a ∧ sT m h a w_count) ∧ (∃ a, Γ 122 = some a ∧ sT m h a w_adult) ∧ (∃ a, Γ 123 = some a ∧ sT m h a w_room) ∧ (∃ a, Γ 124 = some a ∧ sT m h a w_allow) ∧ (∃ a, Γ 125 = some a ∧ sT m h a w_min) ∧ (∃ a, Γ 126 = some a ∧ sT m h a w_max) ∧ (∃ a, Γ 127 = some a ∧ sT m h a w_total) ∧ (∃ a, Γ 128 = some a ∧ sT m h a w_adults) ∧ (∃ a, Γ 129 = some a ∧ sT m h a w_newborn)
end TP7
