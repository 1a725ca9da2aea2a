/-! part 470: the twin's parser: rows of numbers, names, species -/
def tOl (I J : Nat → Int32) (p : Nat) : Prop := J 13 = Int32.ofNat p ∧ ∀ j, j ≠ 13 → j ≠ 14 → j ≠ 20 → j ≠ 21 → J j = I j
def tEl (I J : Nat → Int32) (e : Nat × Nat) : Prop := J 16 = Int32.ofNat e.1 ∧ J 17 = Int32.ofNat e.2 ∧ ∀ j, j ≠ 13 → j ≠ 14 → j ≠ 16 → j ≠ 17 → j ≠ 20 → j ≠ 21 → J j = I j
theorem tOk.l {I J : Nat → Int32} {p : Nat} (o : tOk I J p) : tOl I J p := ⟨o.1, fun j a b _ _ => o.2 j a b⟩
theorem tEr.l {I J : Nat → Int32} {e : Nat × Nat} (o : tEr I J e) : tEl I J e := ⟨o.1, o.2.1, fun j a b c d _ f => o.2.2 j a b c d f⟩
theorem tOl.trans {I J K : Nat → Int32} {p q : Nat} (a : tOl I J p) (b : tOl J K q) : tOl I K q := ⟨b.1, fun j h1 h2 h3 h4 => (b.2 j h1 h2 h3 h4).trans (a.2 j h1 h2 h3 h4)⟩
theorem tOl.er {I J K : Nat → Int32} {p : Nat} {e : Nat × Nat} (a : tOl I J p) (b : tEl J K e) : tEl I K e := ⟨b.1, b.2.1, fun j h1 h2 h3 h4 h5 h6 => (b.2.2 j h1 h2 h3 h4 h5 h6).trans (a.2 j h1 h2 h5 h6)⟩
theorem tPs.ol {T : Nat → Int32} {len p p' : Nat} {I J : Nat → Int32} {A B : Nat → Nat → Int32} (H : tPs T len I A p) (o : tOl I J p') (h : p' ≤ len) (hB : B 8 = A 8) : tPs T len J B p' := by
  obtain ⟨h1, h2, h3, h4, h5, h6⟩ := H
  exact ⟨o.1, by rw [o.2 15 (by decide) (by decide) (by decide) (by decide)]; exact h2, by rw [o.2 16 (by decide) (by decide) (by decide) (by decide)]; exact h3, hB.trans h4, h, h6⟩
theorem tEl.fail {I J : Nat → Int32} {e : Nat × Nat} (a : tEl I J e) (h : e.1 ≤ 900) : ¬ J 16 = -Int32.ofNat 1 := by
  rw [a.1]
  intro q
  have q1 := congrArg Int32.toInt q
  rw [i_toInt (by omega)] at q1
  have q2 : (-Int32.ofNat 1).toInt = -1 := by decide
  omega
theorem a18 {A : Nat → Nat → Int32} {R : Nat → Int32} : va_up A 1 R 8 = A 8 := va_up_ne _ _ (by decide)
theorem pWE_let (T : Nat → Int32) (len : Nat) : ∀ k q i, q ≤ i → i < pWE T len k q → pAt T len i (Int32.ofNat 97) (Int32.ofNat 122) = true := by
  intro k
  induction k with
  | zero => intro q i h1 h2; unfold pWE at h2; omega
  | succ k ih =>
    intro q i h1 h2
    unfold pWE at h2
    split at h2
    · rename_i hc
      by_cases e : i = q
      · subst e; exact hc
      · exact ih (q + 1) i (by omega) h2
    · omega
section TP10
variable {Γ : Nat → Option Nat} {m : Nat} {h : xH} {T : Nat → Int32} {len : Nat}
theorem t_numberF {n p : Nat} {I : Nat → Int32} {A : Nat → Nat → Int32} {Z : Nat → Int64} {lo hi : Int32} (hf : ¬ I 16 = -Int32.ofNat 1) (h1 : I 13 = Int32.ofNat p) (h2 : I 15 = Int32.ofNat len) (hp : p ≤ 900) (h9 : len ≤ 900) : fX3_number m lo hi Γ (tw m I A Z h) n = some (.inl lo, tw m I A Z h, 0, 0) := by
  have e0 := t_blanks1 (Γ := Γ) (n := n) (m := m) (A := A) (S := Z) (h := h) hf
  have e1 := t_isAt (Γ := Γ) (n := n) (m := m) (A := A) (S := Z) (h := h) (lo := Int32.ofNat 48) (hi := Int32.ofNat 57) h1 h2 h9 hp
  have e2 := fun b => t_mustF (Γ := Γ) (n := n) (m := m) (A := A) (S := Z) (h := h) (b := b) (k := Int32.ofNat 1) hf
  have e3 := t_hasFailed1 (Γ := Γ) (n := n) (m := m) (A := A) (S := Z) (h := h) hf
  have d1 : ¬ Int32.ofNat 1 = Int32.ofNat 0 := by decide
  simp (maxDischargeDepth := 9) only [fX3_number, xbind, xlet, xpure, tw_sel, tg_0, tg_4, tg_9, tg_12, tg_13, tg_14, tg_15, tg_16, tg_17, tg_18, tg_19, tg_20, tg_21, tg_24, tr_1, tr_2, tr_3, tr_5, tr_6, tr_7, tr_8, tr_10, tr_11, tr_22, tr_23, tp_0, tp_4, tp_9, tp_12, tp_13, tp_14, tp_15, tp_16, tp_17, tp_18, tp_19, tp_20, tp_21, tp_24, va_up_self, va_up_ne, va_uu, i_ofNat, i_add, i_mul, Nat.add_zero, Nat.zero_add, reduceIte, if_true, if_false, Nat.reduceEqDiff, ne_eq, not_false_eq_true, Nat.reduceEqDiff, not_true_eq_false, e0, e1, e2, e3, d1]
theorem t_readRow {o s w most : Nat} (hs : s < 4) (hw : 13 ≤ w ∧ w ≤ 39) (ho : o ≤ 12) (hm : most < 2147483648) : ∀ (g x p fu : Nat) (I : Nat → Int32) (A : Nat → Nat → Int32) (Z : Nat → Int64) (n : Nat), len < p + g → g < fu → tPs T len I A p → A 1 (zI s 1) = Int32.ofNat o → (x ≤ o ∨ (x ≤ o + 1 ∧ pAt T len (gBl T len p) (Int32.ofNat 48) (Int32.ofNat 57) = true)) →
    ∃ J N', fX3_readRow_p3 fu m (Int32.ofNat s) (Int32.ofNat w) (Int32.ofNat most) (Int32.ofNat x) Γ (tw m I A Z h) n = some (.inl (), tw m J (va_up A 1 N') Z h, 0, 0) ∧ (match gRow T len o (zI s w) most g x p (A 1) with
      | .inl e => tEr I J e
      | .inr (p2, M) => tOk I J p2 ∧ N' = M) := by
  have d1 : ¬ Int32.ofNat 1 = Int32.ofNat 0 := by decide
  intro g
  induction g with
  | zero => intro x p fu I A Z n h1 h2 H; exact absurd H.2.2.2.2.1 (by omega)
  | succ g ih =>
    intro x p fu I A Z n h1 h2 H hA hx
    obtain ⟨fu, rfl⟩ : ∃ g, fu = g + 1 := ⟨fu - 1, by omega⟩
    have h9 : len ≤ 900 := H.2.2.2.2.2
    have hp : p ≤ len := H.2.2.2.2.1
    have q0 := gBl_ge (T := T) (len := len) (p := p)
    have q1 := gBl_le (T := T) hp
    have qi := gBl_idem (T := T) (len := len) (p := p)
    obtain ⟨J, e1, o1, b1⟩ := t_bl (Γ := Γ) (n := n) (m := m) (S := Z) (h := h) H
    have H1 := H.ok (B := A) o1 q1 rfl
    have e2 := t_isAt (Γ := Γ) (n := n) (m := m) (A := A) (S := Z) (h := h) (lo := Int32.ofNat 48) (hi := Int32.ofNat 57) H1.1 H1.2.1 h9 (by omega)
    rw [H1.2.2.2.1] at e2
    have e3 := t_oldest (Γ := Γ) (n := n) (m := m) (I := J) (A := A) (S := Z) (h := h) hs
    rw [hA] at e3
    have i1 : (Int32.ofNat o < Int32.ofNat x) ↔ o < x := i_lt (by omega) (by omega)
    rw [gRow]
    by_cases hc : pAt T len (gBl T len p) (Int32.ofNat 48) (Int32.ofNat 57) = true ∧ o < x
    · rw [if_pos hc]
      rw [hc.1, b2i_t] at e2
      obtain ⟨K, e4, o4⟩ := t_must0e (Γ := Γ) (n := n) (m := m) (A := A) (S := Z) (h := h) (k := 5) H1.2.2.1 b1
      have g4 := o4.fail (show gBl T len p ≤ 900 by omega)
      have k13 : K 13 = K 13 := rfl
      have o5 := o4.2.2
      refine ⟨K, A 1, ?_, o1.er o4⟩
      rw [va_id]
      have e6 := t_hasFailed1 (Γ := Γ) (n := n) (m := m) (A := A) (S := Z) (h := h) g4
      have e5 : fX3_number m (Int32.ofNat 0) (Int32.ofNat most) Γ (tw m K A Z h) n = some (.inl (Int32.ofNat 0), tw m K A Z h, 0, 0) := by
        have e0 := t_blanks1 (Γ := Γ) (n := n) (m := m) (A := A) (S := Z) (h := h) g4
        obtain ⟨b, e1⟩ : ∃ b, fX3_isAt m (Int32.ofNat 48) (Int32.ofNat 57) Γ (tw m K A Z h) n = some (.inl b, tw m K A Z h, 0, 0) := by
          have hk := t_must0 (Γ := Γ) (n := n) (m := m) (I := J) (A := A) (S := Z) (h := h) (k := Int32.ofNat 5) H1.2.2.1
          rw [hk] at e4
          have hK : tw m (va_up (va_up J 16 (J 14)) 17 (Int32.ofNat 5)) A Z h = tw m K A Z h := by
            have := Option.some.inj e4
            exact (Prod.mk.inj (Prod.mk.inj this).2).1
          rw [← hK]
          exact ⟨_, t_isAt (p := gBl T len p) (len := len) (by rw [va_up_ne _ _ (by decide), va_up_ne _ _ (by decide)]; exact H1.1) (by rw [va_up_ne _ _ (by decide), va_up_ne _ _ (by decide)]; exact H1.2.1) h9 (by omega)⟩
        have e2 := fun b => t_mustF (Γ := Γ) (n := n) (m := m) (A := A) (S := Z) (h := h) (b := b) (k := Int32.ofNat 1) g4
        simp (maxDischargeDepth := 9) only [fX3_number, xbind, xlet, xpure, tw_sel, tg_0, tg_4, tg_9, tg_12, tg_13, tg_14, tg_15, tg_16, tg_17, tg_18, tg_19, tg_20, tg_21, tg_24, tr_1, tr_2, tr_3, tr_5, tr_6, tr_7, tr_8, tr_10, tr_11, tr_22, tr_23, tp_0, tp_4, tp_9, tp_12, tp_13, tp_14, tp_15, tp_16, tp_17, tp_18, tp_19, tp_20, tp_21, tp_24, va_up_self, va_up_ne, va_uu, i_ofNat, i_add, i_mul, Nat.add_zero, Nat.zero_add, reduceIte, if_true, if_false, Nat.reduceEqDiff, ne_eq, not_false_eq_true, Nat.reduceEqDiff, not_true_eq_false, e0, e1, e2, e6, d1]
      rw [fX3_readRow_p3]
      simp (maxDischargeDepth := 9) only [xbind, xlet, xpure, tw_sel, tg_0, tg_4, tg_9, tg_12, tg_13, tg_14, tg_15, tg_16, tg_17, tg_18, tg_19, tg_20, tg_21, tg_24, tr_1, tr_2, tr_3, tr_5, tr_6, tr_7, tr_8, tr_10, tr_11, tr_22, tr_23, tp_0, tp_4, tp_9, tp_12, tp_13, tp_14, tp_15, tp_16, tp_17, tp_18, tp_19, tp_20, tp_21, tp_24, va_up_self, va_up_ne, va_uu, i_ofNat, i_add, i_mul, Nat.add_zero, Nat.zero_add, reduceIte, if_true, if_false, Nat.reduceEqDiff, ne_eq, not_false_eq_true, Nat.reduceEqDiff, not_true_eq_false, e1, e2, d1, e3, i1, eq_true hc.2, fX3_readRow_p34, e4, e5, e6]
    · rw [if_neg hc]
      have hx' : x ≤ o := by
        rcases hx with hx | hx
        · exact hx
        · exact Nat.le_of_not_lt (fun z => hc ⟨hx.2, z⟩)
      have ni : ¬ o < x := by omega
      have e4 := t_must1 (Γ := Γ) (n := n) (m := m) (I := J) (A := A) (S := Z) (h := h) (k := Int32.ofNat 5)
      obtain ⟨K, e5, o5⟩ := t_number (Γ := Γ) (n := n) (m := m) (S := Z) (h := h) (lo := 0) (hi := most) (by decide) hm H1
      cases hn : gNum T len 0 most (gBl T len p) with
      | inl e =>
        rw [hn] at e5 o5
        have g5 := o5.fail (Nat.le_trans (gNum_er q1 hn) h9)
        have e6 := t_hasFailed1 (Γ := Γ) (n := n) (m := m) (A := A) (S := Z) (h := h) g5
        refine ⟨K, A 1, ?_, o1.er o5⟩
        rw [va_id, fX3_readRow_p3]
        cases hd : pAt T len (gBl T len p) (Int32.ofNat 48) (Int32.ofNat 57) with
        | true =>
          rw [hd, b2i_t] at e2
          simp (maxDischargeDepth := 9) only [xbind, xlet, xpure, tw_sel, tg_0, tg_4, tg_9, tg_12, tg_13, tg_14, tg_15, tg_16, tg_17, tg_18, tg_19, tg_20, tg_21, tg_24, tr_1, tr_2, tr_3, tr_5, tr_6, tr_7, tr_8, tr_10, tr_11, tr_22, tr_23, tp_0, tp_4, tp_9, tp_12, tp_13, tp_14, tp_15, tp_16, tp_17, tp_18, tp_19, tp_20, tp_21, tp_24, va_up_self, va_up_ne, va_uu, i_ofNat, i_add, i_mul, Nat.add_zero, Nat.zero_add, reduceIte, if_true, if_false, Nat.reduceEqDiff, ne_eq, not_false_eq_true, Nat.reduceEqDiff, not_true_eq_false, e1, e2, d1, e3, i1, ni, fX3_readRow_p29, fX3_readRow_p34, e4, e5, e6]
        | false =>
          rw [hd, b2i_f] at e2
          simp (maxDischargeDepth := 9) only [xbind, xlet, xpure, tw_sel, tg_0, tg_4, tg_9, tg_12, tg_13, tg_14, tg_15, tg_16, tg_17, tg_18, tg_19, tg_20, tg_21, tg_24, tr_1, tr_2, tr_3, tr_5, tr_6, tr_7, tr_8, tr_10, tr_11, tr_22, tr_23, tp_0, tp_4, tp_9, tp_12, tp_13, tp_14, tp_15, tp_16, tp_17, tp_18, tp_19, tp_20, tp_21, tp_24, va_up_self, va_up_ne, va_uu, i_ofNat, i_add, i_mul, Nat.add_zero, Nat.zero_add, reduceIte, if_true, if_false, Nat.reduceEqDiff, ne_eq, not_false_eq_true, Nat.reduceEqDiff, not_true_eq_false, e1, e2, d1, fX3_readRow_p29, fX3_readRow_p34, e4, e5, e6]
      | inr r =>
        obtain ⟨v, p2⟩ := r
        rw [hn] at e5 o5
        have a := gNum_ok q1 hn
        have hd : pAt T len (gBl T len p) (Int32.ofNat 48) (Int32.ofNat 57) = true := by
          unfold gNum at hn
          rw [qi] at hn
          split at hn
          · assumption
          · cases hn
        rw [hd, b2i_t] at e2
        have H2 := H1.ok (B := A) o5 a.2.1 rfl
        have e6 := t_hasFailed0 (Γ := Γ) (n := n) (m := m) (A := A) (S := Z) (h := h) H2.2.2.1
        have kx : zI s (w + x) < 592 := zI_lt hs (by omega)
        have ez : zI s w + x = zI s (w + x) := by unfold zI; omega
        have H3 : tPs T len K (va_up A 1 (va_up (A 1) (zI s (w + x)) (Int32.ofNat v))) p2 := H1.ok o5 a.2.1 a18
        obtain ⟨K2, e7, o7, b7⟩ := t_bl (Γ := Γ) (n := n) (m := m) (S := Z) (h := h) H3
        have r0 := gBl_ge (T := T) (len := len) (p := p2)
        have r1 := gBl_le (T := T) a.2.1
        have H4 := H3.ok (B := va_up A 1 (va_up (A 1) (zI s (w + x)) (Int32.ofNat v))) o7 r1 rfl
        have e8 := t_isAt (Γ := Γ) (n := n) (m := m) (A := va_up A 1 (va_up (A 1) (zI s (w + x)) (Int32.ofNat v))) (S := Z) (h := h) (lo := Int32.ofNat 48) (hi := Int32.ofNat 57) H4.1 H4.2.1 h9 (by omega)
        rw [H4.2.2.2.1] at e8
        dsimp only
        rw [ez]
        cases hd2 : pAt T len (gBl T len p2) (Int32.ofNat 48) (Int32.ofNat 57) with
        | false =>
          rw [hd2, b2i_f] at e8
          rw [if_neg (by decide)]
          refine ⟨K2, _, ?_, o1.trans (o5.trans o7), rfl⟩
          rw [fX3_readRow_p3]
          simp (maxDischargeDepth := 9) only [xbind, xlet, xpure, tw_sel, tg_0, tg_4, tg_9, tg_12, tg_13, tg_14, tg_15, tg_16, tg_17, tg_18, tg_19, tg_20, tg_21, tg_24, tr_1, tr_2, tr_3, tr_5, tr_6, tr_7, tr_8, tr_10, tr_11, tr_22, tr_23, tp_0, tp_4, tp_9, tp_12, tp_13, tp_14, tp_15, tp_16, tp_17, tp_18, tp_19, tp_20, tp_21, tp_24, va_up_self, va_up_ne, va_uu, i_ofNat, i_add, i_mul, Nat.add_zero, Nat.zero_add, reduceIte, if_true, if_false, Nat.reduceEqDiff, ne_eq, not_false_eq_true, Nat.reduceEqDiff, not_true_eq_false, e1, e2, d1, e3, i1, ni, fX3_readRow_p29, fX3_readRow_p34, e4, e5, e6, t_at2, ts_1 kx, e7, e8]
        | true =>
          rw [hd2, b2i_t] at e8
          rw [if_pos rfl]
          obtain ⟨K3, N3, e9, o9⟩ := ih (x + 1) (gBl T len p2) fu K2 (va_up A 1 (va_up (A 1) (zI s (w + x)) (Int32.ofNat v))) Z n (by omega) (by omega) H4 (by rw [va_up_self, va_up_ne _ _ (by unfold zI; omega)]; exact hA) (Or.inr ⟨by omega, by rw [gBl_idem]; exact hd2⟩)
          rw [va_uu] at e9
          rw [va_up_self] at o9
          refine ⟨K3, N3, ?_, ?_⟩
          · rw [fX3_readRow_p3]
            simp (maxDischargeDepth := 9) only [xbind, xlet, xpure, tw_sel, tg_0, tg_4, tg_9, tg_12, tg_13, tg_14, tg_15, tg_16, tg_17, tg_18, tg_19, tg_20, tg_21, tg_24, tr_1, tr_2, tr_3, tr_5, tr_6, tr_7, tr_8, tr_10, tr_11, tr_22, tr_23, tp_0, tp_4, tp_9, tp_12, tp_13, tp_14, tp_15, tp_16, tp_17, tp_18, tp_19, tp_20, tp_21, tp_24, va_up_self, va_up_ne, va_uu, i_ofNat, i_add, i_mul, Nat.add_zero, Nat.zero_add, reduceIte, if_true, if_false, Nat.reduceEqDiff, ne_eq, not_false_eq_true, Nat.reduceEqDiff, not_true_eq_false, e1, e2, d1, e3, i1, ni, fX3_readRow_p29, fX3_readRow_p34, e4, e5, e6, t_at2, ts_1 kx, e7, e8, e9]
          · split at o9
            · exact o1.er (o5.er (o7.er o9))
            · exact ⟨o1.trans (o5.trans (o7.trans o9.1)), o9.2⟩
theorem t_nameHere_p23 {n q l : Nat} {I : Nat → Int32} {A : Nat → Nat → Int32} {Z : Nat → Int64} (hf : I 16 = -Int32.ofNat 1) (hq : I 13 = Int32.ofNat q) (hT : A 8 = T) (hl : ∀ i, q ≤ i → i < q + l → pAt T len i (Int32.ofNat 97) (Int32.ofNat 122) = true) (h9 : len ≤ 900) (hll : l ≤ 900) : ∀ (k x v fu : Nat), x + k = l → k < fu → fX3_nameHere_p23 fu m (Int32.ofNat l) (Int32.ofNat v) (Int32.ofNat x) Γ (tw m I A Z h) n = some (.inl (Int32.ofNat (gNc T (q + x) k v)), tw m I A Z h, 0, 0) := by
  subst hT
  have e0 := t_hasFailed0 (Γ := Γ) (n := n) (m := m) (A := A) (S := Z) (h := h) hf
  intro k
  induction k with
  | zero =>
    intro x v fu hx hfu
    obtain ⟨fu, rfl⟩ : ∃ g, fu = g + 1 := ⟨fu - 1, by omega⟩
    have c1 : Int32.ofNat l ≤ Int32.ofNat x := by rw [i_le (by omega) (by omega)]; omega
    rw [fX3_nameHere_p23, gNc]
    simp (maxDischargeDepth := 9) only [xbind, xlet, xpure, tw_sel, tg_0, tg_4, tg_9, tg_12, tg_13, tg_14, tg_15, tg_16, tg_17, tg_18, tg_19, tg_20, tg_21, tg_24, tr_1, tr_2, tr_3, tr_5, tr_6, tr_7, tr_8, tr_10, tr_11, tr_22, tr_23, tp_0, tp_4, tp_9, tp_12, tp_13, tp_14, tp_15, tp_16, tp_17, tp_18, tp_19, tp_20, tp_21, tp_24, va_up_self, va_up_ne, va_uu, i_ofNat, i_add, i_mul, Nat.add_zero, Nat.zero_add, reduceIte, if_true, if_false, Nat.reduceEqDiff, ne_eq, not_false_eq_true, Nat.reduceEqDiff, not_true_eq_false, c1]
  | succ k ih =>
    intro x v fu hx hfu
    obtain ⟨fu, rfl⟩ : ∃ g, fu = g + 1 := ⟨fu - 1, by omega⟩
    have c1 : ¬ Int32.ofNat l ≤ Int32.ofNat x := by rw [i_le (by omega) (by omega)]; omega
    obtain ⟨hp, c, hc1, hc2, hc3⟩ := pAt_val (hl (q + x) (by omega) (by omega)) (by decide) (by decide)
    have vv : Int32.ofNat (27 * v) + A 8 (q + x) - Int32.ofNat 97 + Int32.ofNat 1 = Int32.ofNat (27 * v + (nn (A 8 (q + x)) - 96)) := by
      rw [hc1, nn_of (by omega), i_add, i_sub (by omega), i_add]
      congr 1
      omega
    have e1 := ih (x + 1) (27 * v + (nn (A 8 (q + x)) - 96)) fu (by omega) (by omega)
    rw [fX3_nameHere_p23, gNc]
    rw [← Nat.add_assoc] at e1
    simp (maxDischargeDepth := 9) only [xbind, xlet, xpure, tw_sel, tg_0, tg_4, tg_9, tg_12, tg_13, tg_14, tg_15, tg_16, tg_17, tg_18, tg_19, tg_20, tg_21, tg_24, tr_1, tr_2, tr_3, tr_5, tr_6, tr_7, tr_8, tr_10, tr_11, tr_22, tr_23, tp_0, tp_4, tp_9, tp_12, tp_13, tp_14, tp_15, tp_16, tp_17, tp_18, tp_19, tp_20, tp_21, tp_24, va_up_self, va_up_ne, va_uu, i_ofNat, i_add, i_mul, Nat.add_zero, Nat.zero_add, reduceIte, if_true, if_false, Nat.reduceEqDiff, ne_eq, not_false_eq_true, Nat.reduceEqDiff, not_true_eq_false, c1, e0, hq, tl_8 (show q + x < 900 by omega), vv, e1]
theorem t_nameHere {n p : Nat} {I : Nat → Int32} {A : Nat → Nat → Int32} {Z : Nat → Int64} (H : tPs T len I A p) : ∃ J v, fX3_nameHere m Γ (tw m I A Z h) n = some (.inl v, tw m J A Z h, 0, 0) ∧ (if 1 ≤ gWE T len (gBl T len p) - gBl T len p ∧ gWE T len (gBl T len p) - gBl T len p ≤ 6 then tOk I J (gBl T len p) ∧ J 14 = Int32.ofNat (gBl T len p) ∧ v = Int32.ofNat (gNc T (gBl T len p) (gWE T len (gBl T len p) - gBl T len p) 0) else tEr I J (gBl T len p, 1)) := by
  have h9 : len ≤ 900 := H.2.2.2.2.2
  have hp : p ≤ len := H.2.2.2.2.1
  have q1 := gBl_le (T := T) hp
  have w0 := gWE_ge (T := T) (len := len) (q := gBl T len p)
  have w1 := gWE_le (T := T) q1
  have d1 : ¬ Int32.ofNat 1 = Int32.ofNat 0 := by decide
  obtain ⟨J, e1, o1, b1⟩ := t_wordHere (Γ := Γ) (n := n) (m := m) (S := Z) (h := h) H
  have H1 := H.ok (B := A) o1 q1 rfl
  by_cases hc : 1 ≤ gWE T len (gBl T len p) - gBl T len p ∧ gWE T len (gBl T len p) - gBl T len p ≤ 6
  · have e2 := t_in1 (Γ := Γ) (h := tw m J A Z h) (n := n) (a := (Int32.ofNat (gWE T len (gBl T len p) - gBl T len p)).toInt64) (b := 1) (c := 6) (by rw [Int32.toInt_toInt64, i_toInt (by omega)]; show (1 : Int) ≤ _; omega) (by rw [Int32.toInt_toInt64, i_toInt (by omega)]; show _ ≤ (6 : Int); omega)
    have e3 := t_must1 (Γ := Γ) (n := n) (m := m) (I := J) (A := A) (S := Z) (h := h) (k := Int32.ofNat 1)
    have e4 := t_nameHere_p23 (Γ := Γ) (n := n) (m := m) (Z := Z) (h := h) (len := len) (l := gWE T len (gBl T len p) - gBl T len p) H1.2.2.1 o1.1 H1.2.2.2.1 (fun i a b => pWE_let T len (len - gBl T len p) (gBl T len p) i a (by unfold gWE at b w0; omega)) h9 (by omega) (gWE T len (gBl T len p) - gBl T len p) 0 0 xFU (by omega) (by unfold xFU; omega)
    rw [Nat.add_zero] at e4
    refine ⟨J, Int32.ofNat (gNc T (gBl T len p) (gWE T len (gBl T len p) - gBl T len p) 0), ?_, ?_⟩
    · simp (maxDischargeDepth := 9) only [fX3_nameHere, xbind, xlet, xpure, tw_sel, tg_0, tg_4, tg_9, tg_12, tg_13, tg_14, tg_15, tg_16, tg_17, tg_18, tg_19, tg_20, tg_21, tg_24, tr_1, tr_2, tr_3, tr_5, tr_6, tr_7, tr_8, tr_10, tr_11, tr_22, tr_23, tp_0, tp_4, tp_9, tp_12, tp_13, tp_14, tp_15, tp_16, tp_17, tp_18, tp_19, tp_20, tp_21, tp_24, va_up_self, va_up_ne, va_uu, i_ofNat, i_add, i_mul, Nat.add_zero, Nat.zero_add, reduceIte, if_true, if_false, Nat.reduceEqDiff, ne_eq, not_false_eq_true, Nat.reduceEqDiff, not_true_eq_false, e1, e2, e3, e4]
    · rw [if_pos hc]
      exact ⟨o1, b1, rfl⟩
  · have e2 := t_in0 (Γ := Γ) (h := tw m J A Z h) (n := n) (a := (Int32.ofNat (gWE T len (gBl T len p) - gBl T len p)).toInt64) (b := 1) (c := 6) (by rw [Int32.toInt_toInt64, i_toInt (by omega)]; intro z; apply hc; have z1 : (1 : Int) ≤ _ := z.1; have z2 : _ ≤ (6 : Int) := z.2; omega)
    obtain ⟨K, e3, o3⟩ := t_must0e (Γ := Γ) (n := n) (m := m) (A := A) (S := Z) (h := h) (k := 1) H1.2.2.1 b1
    have g3 := o3.fail (show gBl T len p ≤ 900 by omega)
    have e4 := t_hasFailed1 (Γ := Γ) (n := n) (m := m) (A := A) (S := Z) (h := h) g3
    have e5 : fX3_nameHere_p23 xFU m (Int32.ofNat (gWE T len (gBl T len p) - gBl T len p)) (Int32.ofNat 0) (Int32.ofNat 0) Γ (tw m K A Z h) n = some (.inl (Int32.ofNat 0), tw m K A Z h, 0, 0) := by
      obtain ⟨fu, hfu⟩ : ∃ g, xFU = g + 1 := ⟨999999, rfl⟩
      rw [hfu, fX3_nameHere_p23]
      by_cases c0 : Int32.ofNat (gWE T len (gBl T len p) - gBl T len p) ≤ Int32.ofNat 0
      · simp (maxDischargeDepth := 9) only [xbind, xlet, xpure, tw_sel, tg_0, tg_4, tg_9, tg_12, tg_13, tg_14, tg_15, tg_16, tg_17, tg_18, tg_19, tg_20, tg_21, tg_24, tr_1, tr_2, tr_3, tr_5, tr_6, tr_7, tr_8, tr_10, tr_11, tr_22, tr_23, tp_0, tp_4, tp_9, tp_12, tp_13, tp_14, tp_15, tp_16, tp_17, tp_18, tp_19, tp_20, tp_21, tp_24, va_up_self, va_up_ne, va_uu, i_ofNat, i_add, i_mul, Nat.add_zero, Nat.zero_add, reduceIte, if_true, if_false, Nat.reduceEqDiff, ne_eq, not_false_eq_true, Nat.reduceEqDiff, not_true_eq_false, c0]
      · simp (maxDischargeDepth := 9) only [xbind, xlet, xpure, tw_sel, tg_0, tg_4, tg_9, tg_12, tg_13, tg_14, tg_15, tg_16, tg_17, tg_18, tg_19, tg_20, tg_21, tg_24, tr_1, tr_2, tr_3, tr_5, tr_6, tr_7, tr_8, tr_10, tr_11, tr_22, tr_23, tp_0, tp_4, tp_9, tp_12, tp_13, tp_14, tp_15, tp_16, tp_17, tp_18, tp_19, tp_20, tp_21, tp_24, va_up_self, va_up_ne, va_uu, i_ofNat, i_add, i_mul, Nat.add_zero, Nat.zero_add, reduceIte, if_true, if_false, Nat.reduceEqDiff, ne_eq, not_false_eq_true, Nat.reduceEqDiff, not_true_eq_false, c0, e4, d1]
    refine ⟨K, Int32.ofNat 0, ?_, ?_⟩
    · simp (maxDischargeDepth := 9) only [fX3_nameHere, xbind, xlet, xpure, tw_sel, tg_0, tg_4, tg_9, tg_12, tg_13, tg_14, tg_15, tg_16, tg_17, tg_18, tg_19, tg_20, tg_21, tg_24, tr_1, tr_2, tr_3, tr_5, tr_6, tr_7, tr_8, tr_10, tr_11, tr_22, tr_23, tp_0, tp_4, tp_9, tp_12, tp_13, tp_14, tp_15, tp_16, tp_17, tp_18, tp_19, tp_20, tp_21, tp_24, va_up_self, va_up_ne, va_uu, i_ofNat, i_add, i_mul, Nat.add_zero, Nat.zero_add, reduceIte, if_true, if_false, Nat.reduceEqDiff, ne_eq, not_false_eq_true, Nat.reduceEqDiff, not_true_eq_false, e1, e2, e3, e5]
    · rw [if_neg hc]
      exact o1.er o3
end TP10
