/-! part 472: the twin's parser: a line -/
theorem gRow_low {T : Nat → Int32} {len o c most : Nat} : ∀ (g x p : Nat) (N : Nat → Int32) (p2 : Nat) (M : Nat → Int32), gRow T len o c most g x p N = .inr (p2, M) → ∀ j, j < c → M j = N j := by
  intro g
  induction g with
  | zero => intro x p N p2 M hh; cases hh
  | succ g ih =>
    intro x p N p2 M hh j hj
    rw [gRow] at hh
    split at hh
    · cases hh
    · split at hh
      · cases hh
      · split at hh
        · have := ih _ _ _ _ _ hh j hj
          rw [this, va_up_ne _ _ (by omega)]
        · cases hh
          rw [va_up_ne _ _ (by omega)]
def gV (lo : Nat) (r : gX (Nat × Nat)) : Int32 := match r with
  | .inl _ => Int32.ofNat lo
  | .inr z => Int32.ofNat z.1
def gT (I J : Nat → Int32) (r : gX (Nat × Nat)) : Prop := match r with
  | .inl e => tEr I J e
  | .inr z => tOk I J z.2
section TP12
variable {Γ : Nat → Option Nat} {m : Nat} {h : xH} {T : Nat → Int32} {len : Nat}
theorem t_numberV {n p : Nat} {I : Nat → Int32} {A : Nat → Nat → Int32} {Z : Nat → Int64} {lo hi : Nat} (hlo : lo < 2147483648) (hhi : hi < 2147483648) (H : tPs T len I A p) : ∃ J, fX3_number m (Int32.ofNat lo) (Int32.ofNat hi) Γ (tw m I A Z h) n = some (.inl (gV lo (gNum T len lo hi p)), tw m J A Z h, 0, 0) ∧ gT I J (gNum T len lo hi p) := t_number hlo hhi H
theorem t_rowL {n p s w most : Nat} {N : Nat → Int32} {TS : gTs} (hr : rdN N TS) (hsn : s < nn (N 0)) (hw : 13 ≤ w ∧ w ≤ 39) (hm : most < 2147483648) (I : Nat → Int32) (A : Nat → Nat → Int32) (Z : Nat → Int64) (H : tPs T len I A p) (hA : A 1 = N) (hF : ∀ s, s < nn (N 0) → tFm (A 6) (1401 * s) (TS s)) :
    ∃ J B, fX3_readRow m (Int32.ofNat s) (Int32.ofNat w) (Int32.ofNat most) Γ (tw m I A Z h) n = some (.inl (), tw m J B Z h, 0, 0) ∧ (∀ j, j ≠ 1 → j ≠ 6 → B j = A j) ∧ (match gRowL T len s w most p N TS with
      | .inl e => tEl I J e
      | .inr (p2, N2, TS2) => tOl I J p2 ∧ B 1 = N2 ∧ ∀ s, s < nn (N2 0) → tFm (B 6) (1401 * s) (TS2 s)) := by
  subst hA
  have a4 := hr.1.2.1
  have h9 : len ≤ 900 := H.2.2.2.2.2
  have hp : p ≤ len := H.2.2.2.2.1
  have ho := hr.1.2.2.2.2.2.2.2.2.1 s hsn
  obtain ⟨J, N', e1, o1⟩ := t_readRow (Γ := Γ) (m := m) (h := h) (T := T) (len := len) (s := s) (w := w) (most := most) (by omega) hw ho.2.1 hm (len + 1) 0 p xFU I A Z n (by omega) (by unfold xFU; omega) H ho.1 (Or.inl (Nat.zero_le _))
  refine ⟨J, va_up A 1 N', ?_, fun j a b => va_up_ne _ _ a, ?_⟩
  · simp (maxDischargeDepth := 9) only [fX3_readRow, xbind, xlet, xpure, tw_sel, tg_0, tg_4, tg_9, tg_12, tg_13, tg_14, tg_15, tg_16, tg_17, tg_18, tg_19, tg_20, tg_21, tg_24, tr_1, tr_2, tr_3, tr_5, tr_6, tr_7, tr_8, tr_10, tr_11, tr_22, tr_23, tp_0, tp_4, tp_9, tp_12, tp_13, tp_14, tp_15, tp_16, tp_17, tp_18, tp_19, tp_20, tp_21, tp_24, va_up_self, va_up_ne, va_uu, i_ofNat, i_add, i_mul, Nat.add_zero, Nat.zero_add, reduceIte, if_true, if_false, Nat.reduceEqDiff, ne_eq, not_false_eq_true, Nat.reduceEqDiff, not_true_eq_false, e1]
  · unfold gRowL
    cases hg : gRow T len (nn (A 1 (zI s 1))) (zI s w) most (len + 1) 0 p (A 1) with
    | inl e => rw [hg] at o1; exact o1.l
    | inr r =>
      obtain ⟨p2, M⟩ := r
      rw [hg] at o1
      obtain ⟨o1, rfl⟩ := o1
      refine ⟨o1.l, va_up_self _ _ _, fun t ht => ?_⟩
      rw [va_up_ne _ _ (by decide)]
      have gl := gRow_low _ _ _ _ _ _ hg 0 (by unfold zI; omega)
      rw [gl] at ht
      exact hF t ht
theorem t_readOf {n q : Nat} {N : Nat → Int32} {TS : gTs} (hs : tStr Γ m h) (hr : rdN N TS) (hq : gBl T len q = q) (I : Nat → Int32) (A : Nat → Nat → Int32) (Z : Nat → Int64) (H : tPs T len I A q) (h14 : I 14 = Int32.ofNat q) (hA : A 1 = N) (hF : ∀ s, s < nn (N 0) → tFm (A 6) (1401 * s) (TS s)) :
    ∃ J B, fX3_readOf m (N 0 - Int32.ofNat 1) Γ (tw m I A Z h) n = some (.inl (), tw m J B Z h, 0, 0) ∧ (∀ j, j ≠ 1 → j ≠ 6 → B j = A j) ∧ (match gOf T len q N TS with
      | .inl e => tEl I J e
      | .inr (p2, N2, TS2) => tOl I J p2 ∧ B 1 = N2 ∧ ∀ s, s < nn (N2 0) → tFm (B 6) (1401 * s) (TS2 s)) := by
  subst hA
  have hs0 := hs
  obtain ⟨-, -, ⟨a_survive, z_survive, s_survive⟩, ⟨a_bear, z_bear, s_bear⟩, ⟨a_count, z_count, s_count⟩, ⟨a_adult, z_adult, s_adult⟩, ⟨a_room, z_room, s_room⟩, ⟨a_allow, z_allow, s_allow⟩, -⟩ := hs
  have h9 : len ≤ 900 := H.2.2.2.2.2
  have q1 : q ≤ len := H.2.2.2.2.1
  have d1 : ¬ Int32.ofNat 1 = Int32.ofNat 0 := by decide
  have a0 := hr.1.1
  have a4 := hr.1.2.1
  unfold nN at a0
  have fail : ∀ (J : Nat → Int32) (p : Nat), tOk I J p → ∃ K, (∀ l1 l3 l4 l5 l6 l7 : Int32, fX3_readOf_p182 m l1 l3 l4 l5 l6 l7 (Int32.ofNat 0) m Γ (tw m (va_up J 14 (Int32.ofNat q)) A Z h) n = some (.inl (), tw m K A Z h, 0, 0)) ∧ tEl I K (q, 1) := by
    intro J p o
    have f16 : va_up J 14 (Int32.ofNat q) 16 = -Int32.ofNat 1 := by rw [va_up_ne _ _ (by decide), o.2 16 (by decide) (by decide)]; exact H.2.2.1
    obtain ⟨K, e1, o1⟩ := t_must0e (Γ := Γ) (n := n) (m := m) (A := A) (S := Z) (h := h) (k := 1) f16 (va_up_self _ _ _)
    have e2 := t_hasFailed1 (Γ := Γ) (n := n) (m := m) (A := A) (S := Z) (h := h) (o1.fail (show q ≤ 900 by omega))
    refine ⟨K, fun l1 l3 l4 l5 l6 l7 => ?_, o1.1, o1.2.1, fun j a b c d e f => ?_⟩
    · simp (maxDischargeDepth := 9) only [fX3_readOf_p182, xbind, xlet, xpure, tw_sel, tg_0, tg_4, tg_9, tg_12, tg_13, tg_14, tg_15, tg_16, tg_17, tg_18, tg_19, tg_20, tg_21, tg_24, tr_1, tr_2, tr_3, tr_5, tr_6, tr_7, tr_8, tr_10, tr_11, tr_22, tr_23, tp_0, tp_4, tp_9, tp_12, tp_13, tp_14, tp_15, tp_16, tp_17, tp_18, tp_19, tp_20, tp_21, tp_24, va_up_self, va_up_ne, va_uu, i_ofNat, i_add, i_mul, Nat.add_zero, Nat.zero_add, reduceIte, if_true, if_false, Nat.reduceEqDiff, ne_eq, not_false_eq_true, Nat.reduceEqDiff, not_true_eq_false, e1, e2, d1]
    · rw [o1.2.2 j a b c d f, va_up_ne _ _ b, o.2 j a b]
  unfold gOf
  by_cases c0 : nn (A 1 0) = 0
  · rw [if_pos c0]
    have lneg : A 1 0 - Int32.ofNat 1 < Int32.ofNat 0 := by rw [a0, c0]; decide
    generalize A 1 0 - Int32.ofNat 1 = l1 at *
    obtain ⟨J0, u0, v0, b_0⟩ := t_takesQ (Γ := Γ) (n := n) (Z := Z) H hq s_survive (by decide)
    cases w0 : gWd T len w_survive q with
    | true =>
      rw [w0, b2i_t] at u0
      rw [w0, if_pos rfl] at v0
      obtain ⟨K, eK, oK⟩ := fail J0 _ v0
      refine ⟨K, A, ?_, fun _ _ _ => rfl, oK⟩
      simp (maxDischargeDepth := 9) only [fX3_readOf, fX3_readOf_p29, fX3_readOf_p30, fX3_readOf_p54, fX3_readOf_p55, fX3_readOf_p84, fX3_readOf_p85, fX3_readOf_p119, fX3_readOf_p120, fX3_readOf_p155, fX3_readOf_p160, fX3_readOf_p181, xbind, xlet, xpure, tw_sel, tg_0, tg_4, tg_9, tg_12, tg_13, tg_14, tg_15, tg_16, tg_17, tg_18, tg_19, tg_20, tg_21, tg_24, tr_1, tr_2, tr_3, tr_5, tr_6, tr_7, tr_8, tr_10, tr_11, tr_22, tr_23, tp_0, tp_4, tp_9, tp_12, tp_13, tp_14, tp_15, tp_16, tp_17, tp_18, tp_19, tp_20, tp_21, tp_24, va_up_self, va_up_ne, va_uu, i_ofNat, i_add, i_mul, Nat.add_zero, Nat.zero_add, reduceIte, if_true, if_false, Nat.reduceEqDiff, ne_eq, not_false_eq_true, Nat.reduceEqDiff, not_true_eq_false, d1, xcon, h14, lneg, z_survive, u0, eK]
    | false =>
      rw [w0, b2i_f] at u0
      rw [w0, if_neg (by decide)] at v0
      have K0 := H.ok (B := A) v0 q1 rfl
      have y0 := v0
      obtain ⟨J1, u1, v1, b_1⟩ := t_takesQ (Γ := Γ) (n := n) (Z := Z) K0 hq s_bear (by decide)
      cases w1 : gWd T len w_bear q with
      | true =>
        rw [w1, b2i_t] at u1
        rw [w1, if_pos rfl] at v1
        obtain ⟨K, eK, oK⟩ := fail J1 _ (y0.trans v1)
        refine ⟨K, A, ?_, fun _ _ _ => rfl, oK⟩
        simp (maxDischargeDepth := 9) only [fX3_readOf, fX3_readOf_p29, fX3_readOf_p30, fX3_readOf_p54, fX3_readOf_p55, fX3_readOf_p84, fX3_readOf_p85, fX3_readOf_p119, fX3_readOf_p120, fX3_readOf_p155, fX3_readOf_p160, fX3_readOf_p181, xbind, xlet, xpure, tw_sel, tg_0, tg_4, tg_9, tg_12, tg_13, tg_14, tg_15, tg_16, tg_17, tg_18, tg_19, tg_20, tg_21, tg_24, tr_1, tr_2, tr_3, tr_5, tr_6, tr_7, tr_8, tr_10, tr_11, tr_22, tr_23, tp_0, tp_4, tp_9, tp_12, tp_13, tp_14, tp_15, tp_16, tp_17, tp_18, tp_19, tp_20, tp_21, tp_24, va_up_self, va_up_ne, va_uu, i_ofNat, i_add, i_mul, Nat.add_zero, Nat.zero_add, reduceIte, if_true, if_false, Nat.reduceEqDiff, ne_eq, not_false_eq_true, Nat.reduceEqDiff, not_true_eq_false, d1, xcon, h14, lneg, z_survive, u0, z_bear, u1, eK]
      | false =>
        rw [w1, b2i_f] at u1
        rw [w1, if_neg (by decide)] at v1
        have K1 := K0.ok (B := A) v1 q1 rfl
        have y1 := y0.trans v1
        obtain ⟨J2, u2, v2, b_2⟩ := t_takesQ (Γ := Γ) (n := n) (Z := Z) K1 hq s_count (by decide)
        cases w2 : gWd T len w_count q with
        | true =>
          rw [w2, b2i_t] at u2
          rw [w2, if_pos rfl] at v2
          obtain ⟨K, eK, oK⟩ := fail J2 _ (y1.trans v2)
          refine ⟨K, A, ?_, fun _ _ _ => rfl, oK⟩
          simp (maxDischargeDepth := 9) only [fX3_readOf, fX3_readOf_p29, fX3_readOf_p30, fX3_readOf_p54, fX3_readOf_p55, fX3_readOf_p84, fX3_readOf_p85, fX3_readOf_p119, fX3_readOf_p120, fX3_readOf_p155, fX3_readOf_p160, fX3_readOf_p181, xbind, xlet, xpure, tw_sel, tg_0, tg_4, tg_9, tg_12, tg_13, tg_14, tg_15, tg_16, tg_17, tg_18, tg_19, tg_20, tg_21, tg_24, tr_1, tr_2, tr_3, tr_5, tr_6, tr_7, tr_8, tr_10, tr_11, tr_22, tr_23, tp_0, tp_4, tp_9, tp_12, tp_13, tp_14, tp_15, tp_16, tp_17, tp_18, tp_19, tp_20, tp_21, tp_24, va_up_self, va_up_ne, va_uu, i_ofNat, i_add, i_mul, Nat.add_zero, Nat.zero_add, reduceIte, if_true, if_false, Nat.reduceEqDiff, ne_eq, not_false_eq_true, Nat.reduceEqDiff, not_true_eq_false, d1, xcon, h14, lneg, z_survive, u0, z_bear, u1, z_count, u2, eK]
        | false =>
          rw [w2, b2i_f] at u2
          rw [w2, if_neg (by decide)] at v2
          have K2 := K1.ok (B := A) v2 q1 rfl
          have y2 := y1.trans v2
          obtain ⟨J3, u3, v3, b_3⟩ := t_takesQ (Γ := Γ) (n := n) (Z := Z) K2 hq s_adult (by decide)
          cases w3 : gWd T len w_adult q with
          | true =>
            rw [w3, b2i_t] at u3
            rw [w3, if_pos rfl] at v3
            obtain ⟨K, eK, oK⟩ := fail J3 _ (y2.trans v3)
            refine ⟨K, A, ?_, fun _ _ _ => rfl, oK⟩
            simp (maxDischargeDepth := 9) only [fX3_readOf, fX3_readOf_p29, fX3_readOf_p30, fX3_readOf_p54, fX3_readOf_p55, fX3_readOf_p84, fX3_readOf_p85, fX3_readOf_p119, fX3_readOf_p120, fX3_readOf_p155, fX3_readOf_p160, fX3_readOf_p181, xbind, xlet, xpure, tw_sel, tg_0, tg_4, tg_9, tg_12, tg_13, tg_14, tg_15, tg_16, tg_17, tg_18, tg_19, tg_20, tg_21, tg_24, tr_1, tr_2, tr_3, tr_5, tr_6, tr_7, tr_8, tr_10, tr_11, tr_22, tr_23, tp_0, tp_4, tp_9, tp_12, tp_13, tp_14, tp_15, tp_16, tp_17, tp_18, tp_19, tp_20, tp_21, tp_24, va_up_self, va_up_ne, va_uu, i_ofNat, i_add, i_mul, Nat.add_zero, Nat.zero_add, reduceIte, if_true, if_false, Nat.reduceEqDiff, ne_eq, not_false_eq_true, Nat.reduceEqDiff, not_true_eq_false, d1, xcon, h14, lneg, z_survive, u0, z_bear, u1, z_count, u2, z_adult, u3, eK]
          | false =>
            rw [w3, b2i_f] at u3
            rw [w3, if_neg (by decide)] at v3
            have K3 := K2.ok (B := A) v3 q1 rfl
            have y3 := y2.trans v3
            obtain ⟨J4, u4, v4, b_4⟩ := t_takesQ (Γ := Γ) (n := n) (Z := Z) K3 hq s_room (by decide)
            cases w4 : gWd T len w_room q with
            | true =>
              rw [w4, b2i_t] at u4
              rw [w4, if_pos rfl] at v4
              obtain ⟨K, eK, oK⟩ := fail J4 _ (y3.trans v4)
              refine ⟨K, A, ?_, fun _ _ _ => rfl, oK⟩
              simp (maxDischargeDepth := 9) only [fX3_readOf, fX3_readOf_p29, fX3_readOf_p30, fX3_readOf_p54, fX3_readOf_p55, fX3_readOf_p84, fX3_readOf_p85, fX3_readOf_p119, fX3_readOf_p120, fX3_readOf_p155, fX3_readOf_p160, fX3_readOf_p181, xbind, xlet, xpure, tw_sel, tg_0, tg_4, tg_9, tg_12, tg_13, tg_14, tg_15, tg_16, tg_17, tg_18, tg_19, tg_20, tg_21, tg_24, tr_1, tr_2, tr_3, tr_5, tr_6, tr_7, tr_8, tr_10, tr_11, tr_22, tr_23, tp_0, tp_4, tp_9, tp_12, tp_13, tp_14, tp_15, tp_16, tp_17, tp_18, tp_19, tp_20, tp_21, tp_24, va_up_self, va_up_ne, va_uu, i_ofNat, i_add, i_mul, Nat.add_zero, Nat.zero_add, reduceIte, if_true, if_false, Nat.reduceEqDiff, ne_eq, not_false_eq_true, Nat.reduceEqDiff, not_true_eq_false, d1, xcon, h14, lneg, z_survive, u0, z_bear, u1, z_count, u2, z_adult, u3, z_room, u4, eK]
            | false =>
              rw [w4, b2i_f] at u4
              rw [w4, if_neg (by decide)] at v4
              have K4 := K3.ok (B := A) v4 q1 rfl
              have y4 := y3.trans v4
              obtain ⟨J5, u5, v5, b_5⟩ := t_takesQ (Γ := Γ) (n := n) (Z := Z) K4 hq s_allow (by decide)
              cases w5 : gWd T len w_allow q with
              | true =>
                rw [w5, b2i_t] at u5
                rw [w5, if_pos rfl] at v5
                obtain ⟨K, eK, oK⟩ := fail J5 _ (y4.trans v5)
                refine ⟨K, A, ?_, fun _ _ _ => rfl, oK⟩
                simp (maxDischargeDepth := 9) only [fX3_readOf, fX3_readOf_p29, fX3_readOf_p30, fX3_readOf_p54, fX3_readOf_p55, fX3_readOf_p84, fX3_readOf_p85, fX3_readOf_p119, fX3_readOf_p120, fX3_readOf_p155, fX3_readOf_p160, fX3_readOf_p181, xbind, xlet, xpure, tw_sel, tg_0, tg_4, tg_9, tg_12, tg_13, tg_14, tg_15, tg_16, tg_17, tg_18, tg_19, tg_20, tg_21, tg_24, tr_1, tr_2, tr_3, tr_5, tr_6, tr_7, tr_8, tr_10, tr_11, tr_22, tr_23, tp_0, tp_4, tp_9, tp_12, tp_13, tp_14, tp_15, tp_16, tp_17, tp_18, tp_19, tp_20, tp_21, tp_24, va_up_self, va_up_ne, va_uu, i_ofNat, i_add, i_mul, Nat.add_zero, Nat.zero_add, reduceIte, if_true, if_false, Nat.reduceEqDiff, ne_eq, not_false_eq_true, Nat.reduceEqDiff, not_true_eq_false, d1, xcon, h14, lneg, z_survive, u0, z_bear, u1, z_count, u2, z_adult, u3, z_room, u4, z_allow, u5, eK]
              | false =>
                rw [w5, b2i_f] at u5
                rw [w5, if_neg (by decide)] at v5
                have K5 := K4.ok (B := A) v5 q1 rfl
                have y5 := y4.trans v5
                obtain ⟨K, eK, oK⟩ := fail J5 _ y5
                refine ⟨K, A, ?_, fun _ _ _ => rfl, oK⟩
                simp (maxDischargeDepth := 9) only [fX3_readOf, fX3_readOf_p29, fX3_readOf_p30, fX3_readOf_p54, fX3_readOf_p55, fX3_readOf_p84, fX3_readOf_p85, fX3_readOf_p119, fX3_readOf_p120, fX3_readOf_p155, fX3_readOf_p160, fX3_readOf_p181, xbind, xlet, xpure, tw_sel, tg_0, tg_4, tg_9, tg_12, tg_13, tg_14, tg_15, tg_16, tg_17, tg_18, tg_19, tg_20, tg_21, tg_24, tr_1, tr_2, tr_3, tr_5, tr_6, tr_7, tr_8, tr_10, tr_11, tr_22, tr_23, tp_0, tp_4, tp_9, tp_12, tp_13, tp_14, tp_15, tp_16, tp_17, tp_18, tp_19, tp_20, tp_21, tp_24, va_up_self, va_up_ne, va_uu, i_ofNat, i_add, i_mul, Nat.add_zero, Nat.zero_add, reduceIte, if_true, if_false, Nat.reduceEqDiff, ne_eq, not_false_eq_true, Nat.reduceEqDiff, not_true_eq_false, d1, xcon, h14, lneg, z_survive, u0, z_bear, u1, z_count, u2, z_adult, u3, z_room, u4, z_allow, u5, eK]
  · rw [if_neg c0]
    obtain ⟨s, hs1⟩ : ∃ s, nn (A 1 0) = s + 1 := ⟨nn (A 1 0) - 1, by omega⟩
    have e1 : nn (A 1 0) - 1 = s := by omega
    rw [e1]
    have hsn : s < nn (A 1 0) := by omega
    have el : A 1 0 - Int32.ofNat 1 = Int32.ofNat s := by rw [a0, hs1, i_sub (by omega), Nat.add_sub_cancel]
    rw [el]
    have lneg : ¬ Int32.ofNat s < Int32.ofNat 0 := by rw [i_lt (by omega) (by decide)]; omega
    have ho := hr.1.2.2.2.2.2.2.2.2.1 s hsn
    have ho1 := ho.1
    unfold nN at ho1
    have good : ∀ (J : Nat → Int32) (p : Nat), tOk I J p → p ≤ len → tPs T len (va_up J 14 (Int32.ofNat q)) A p ∧ tOl I (va_up J 14 (Int32.ofNat q)) p := by
      intro J p o hp
      have o2 : tOk I (va_up J 14 (Int32.ofNat q)) p := ⟨by rw [va_up_ne _ _ (by decide)]; exact o.1, fun j a b => by rw [va_up_ne _ _ b]; exact o.2 j a b⟩
      exact ⟨H.ok o2 hp rfl, o2.l⟩
    unfold gOfS
    obtain ⟨J0, u0, v0, b_0⟩ := t_takesQ (Γ := Γ) (n := n) (Z := Z) H hq s_survive (by decide)
    cases w0 : gWd T len w_survive q with
    | true =>
      rw [w0, b2i_t] at u0
      rw [w0, if_pos rfl] at v0
      rw [if_pos rfl]
      have gl : q + 7 ≤ len := gWd_le q1 w0
      obtain ⟨HH, oH⟩ := good J0 (q + 7) v0 gl
      have m1 := t_must1 (Γ := Γ) (n := n) (m := m) (I := va_up J0 14 (Int32.ofNat q)) (A := A) (S := Z) (h := h) (k := Int32.ofNat 1)
      have m2 := t_hasFailed0 (Γ := Γ) (n := n) (m := m) (A := A) (S := Z) (h := h) HH.2.2.1
      obtain ⟨K, B, e6, r6, o6⟩ := t_rowL (Γ := Γ) (n := n) (m := m) (h := h) (w := 13) (most := 1000) hr hsn (by decide) (by decide) _ A Z HH rfl hF
      refine ⟨K, B, ?_, r6, ?_⟩
      · simp (maxDischargeDepth := 9) only [fX3_readOf, fX3_readOf_p29, fX3_readOf_p30, fX3_readOf_p54, fX3_readOf_p55, fX3_readOf_p84, fX3_readOf_p85, fX3_readOf_p119, fX3_readOf_p120, fX3_readOf_p155, fX3_readOf_p160, fX3_readOf_p181, xbind, xlet, xpure, tw_sel, tg_0, tg_4, tg_9, tg_12, tg_13, tg_14, tg_15, tg_16, tg_17, tg_18, tg_19, tg_20, tg_21, tg_24, tr_1, tr_2, tr_3, tr_5, tr_6, tr_7, tr_8, tr_10, tr_11, tr_22, tr_23, tp_0, tp_4, tp_9, tp_12, tp_13, tp_14, tp_15, tp_16, tp_17, tp_18, tp_19, tp_20, tp_21, tp_24, va_up_self, va_up_ne, va_uu, i_ofNat, i_add, i_mul, Nat.add_zero, Nat.zero_add, reduceIte, if_true, if_false, Nat.reduceEqDiff, ne_eq, not_false_eq_true, Nat.reduceEqDiff, not_true_eq_false, d1, xcon, h14, lneg, z_survive, u0, fX3_readOf_p182, m1, m2, e6]
      · revert o6
        cases gRowL T len s 13 1000 (q + 7) (A 1) TS with
        | inl e => exact fun o => oH.er o
        | inr r => exact fun o => ⟨oH.trans o.1, o.2⟩
    | false =>
      rw [w0, b2i_f] at u0
      rw [w0, if_neg (by decide)] at v0
      rw [if_neg (by decide)]
      have K0 := H.ok (B := A) v0 q1 rfl
      have y0 := v0
      obtain ⟨J1, u1, v1, b_1⟩ := t_takesQ (Γ := Γ) (n := n) (Z := Z) K0 hq s_bear (by decide)
      cases w1 : gWd T len w_bear q with
      | true =>
        rw [w1, b2i_t] at u1
        rw [w1, if_pos rfl] at v1
        rw [if_pos rfl]
        have gl : q + 4 ≤ len := gWd_le q1 w1
        obtain ⟨HH, oH⟩ := good J1 (q + 4) (y0.trans v1) gl
        have m1 := t_must1 (Γ := Γ) (n := n) (m := m) (I := va_up J1 14 (Int32.ofNat q)) (A := A) (S := Z) (h := h) (k := Int32.ofNat 1)
        have m2 := t_hasFailed0 (Γ := Γ) (n := n) (m := m) (A := A) (S := Z) (h := h) HH.2.2.1
        obtain ⟨K, B, e6, r6, o6⟩ := t_rowL (Γ := Γ) (n := n) (m := m) (h := h) (w := 26) (most := 9999) hr hsn (by decide) (by decide) _ A Z HH rfl hF
        refine ⟨K, B, ?_, r6, ?_⟩
        · simp (maxDischargeDepth := 9) only [fX3_readOf, fX3_readOf_p29, fX3_readOf_p30, fX3_readOf_p54, fX3_readOf_p55, fX3_readOf_p84, fX3_readOf_p85, fX3_readOf_p119, fX3_readOf_p120, fX3_readOf_p155, fX3_readOf_p160, fX3_readOf_p181, xbind, xlet, xpure, tw_sel, tg_0, tg_4, tg_9, tg_12, tg_13, tg_14, tg_15, tg_16, tg_17, tg_18, tg_19, tg_20, tg_21, tg_24, tr_1, tr_2, tr_3, tr_5, tr_6, tr_7, tr_8, tr_10, tr_11, tr_22, tr_23, tp_0, tp_4, tp_9, tp_12, tp_13, tp_14, tp_15, tp_16, tp_17, tp_18, tp_19, tp_20, tp_21, tp_24, va_up_self, va_up_ne, va_uu, i_ofNat, i_add, i_mul, Nat.add_zero, Nat.zero_add, reduceIte, if_true, if_false, Nat.reduceEqDiff, ne_eq, not_false_eq_true, Nat.reduceEqDiff, not_true_eq_false, d1, xcon, h14, lneg, z_survive, u0, z_bear, u1, fX3_readOf_p182, m1, m2, e6]
        · revert o6
          cases gRowL T len s 26 9999 (q + 4) (A 1) TS with
          | inl e => exact fun o => oH.er o
          | inr r => exact fun o => ⟨oH.trans o.1, o.2⟩
      | false =>
        rw [w1, b2i_f] at u1
        rw [w1, if_neg (by decide)] at v1
        rw [if_neg (by decide)]
        have K1 := K0.ok (B := A) v1 q1 rfl
        have y1 := y0.trans v1
        obtain ⟨J2, u2, v2, b_2⟩ := t_takesQ (Γ := Γ) (n := n) (Z := Z) K1 hq s_count (by decide)
        cases w2 : gWd T len w_count q with
        | true =>
          rw [w2, b2i_t] at u2
          rw [w2, if_pos rfl] at v2
          rw [if_pos rfl]
          have gl : q + 5 ≤ len := gWd_le q1 w2
          obtain ⟨HH, oH⟩ := good J2 (q + 5) (y1.trans v2) gl
          have m1 := t_must1 (Γ := Γ) (n := n) (m := m) (I := va_up J2 14 (Int32.ofNat q)) (A := A) (S := Z) (h := h) (k := Int32.ofNat 1)
          have m2 := t_hasFailed0 (Γ := Γ) (n := n) (m := m) (A := A) (S := Z) (h := h) HH.2.2.1
          obtain ⟨K, B, e6, r6, o6⟩ := t_rowL (Γ := Γ) (n := n) (m := m) (h := h) (w := 39) (most := 99999) hr hsn (by decide) (by decide) _ A Z HH rfl hF
          refine ⟨K, B, ?_, r6, ?_⟩
          · simp (maxDischargeDepth := 9) only [fX3_readOf, fX3_readOf_p29, fX3_readOf_p30, fX3_readOf_p54, fX3_readOf_p55, fX3_readOf_p84, fX3_readOf_p85, fX3_readOf_p119, fX3_readOf_p120, fX3_readOf_p155, fX3_readOf_p160, fX3_readOf_p181, xbind, xlet, xpure, tw_sel, tg_0, tg_4, tg_9, tg_12, tg_13, tg_14, tg_15, tg_16, tg_17, tg_18, tg_19, tg_20, tg_21, tg_24, tr_1, tr_2, tr_3, tr_5, tr_6, tr_7, tr_8, tr_10, tr_11, tr_22, tr_23, tp_0, tp_4, tp_9, tp_12, tp_13, tp_14, tp_15, tp_16, tp_17, tp_18, tp_19, tp_20, tp_21, tp_24, va_up_self, va_up_ne, va_uu, i_ofNat, i_add, i_mul, Nat.add_zero, Nat.zero_add, reduceIte, if_true, if_false, Nat.reduceEqDiff, ne_eq, not_false_eq_true, Nat.reduceEqDiff, not_true_eq_false, d1, xcon, h14, lneg, z_survive, u0, z_bear, u1, z_count, u2, fX3_readOf_p182, m1, m2, e6]
          · revert o6
            cases gRowL T len s 39 99999 (q + 5) (A 1) TS with
            | inl e => exact fun o => oH.er o
            | inr r => exact fun o => ⟨oH.trans o.1, o.2⟩
        | false =>
          rw [w2, b2i_f] at u2
          rw [w2, if_neg (by decide)] at v2
          rw [if_neg (by decide)]
          have K2 := K1.ok (B := A) v2 q1 rfl
          have y2 := y1.trans v2
          obtain ⟨J3, u3, v3, b_3⟩ := t_takesQ (Γ := Γ) (n := n) (Z := Z) K2 hq s_adult (by decide)
          cases w3 : gWd T len w_adult q with
          | true =>
            rw [w3, b2i_t] at u3
            rw [w3, if_pos rfl] at v3
            rw [if_pos rfl]
            have gl : q + 5 ≤ len := gWd_le q1 w3
            obtain ⟨HH, oH⟩ := good J3 (q + 5) (y2.trans v3) gl
            have m1 := t_must1 (Γ := Γ) (n := n) (m := m) (I := va_up J3 14 (Int32.ofNat q)) (A := A) (S := Z) (h := h) (k := Int32.ofNat 1)
            have m2 := t_hasFailed0 (Γ := Γ) (n := n) (m := m) (A := A) (S := Z) (h := h) HH.2.2.1
            have kx : zI s 2 < 592 := zI_lt (by omega) (by omega)
            obtain ⟨K, e6, o6⟩ := t_numberV (Γ := Γ) (n := n) (m := m) (Z := Z) (h := h) (lo := 0) (hi := (nn (A 1 (zI s 1)))) (by decide) (by have := ho.2.1; omega) HH
            have eo := t_oldest (Γ := Γ) (n := n) (m := m) (I := va_up J3 14 (Int32.ofNat q)) (A := A) (S := Z) (h := h) (s := s) (by omega)
            rw [← ho1] at e6
            refine ⟨K, va_up A 1 (va_up (A 1) (zI s 2) (gV 0 (gNum T len 0 (nn (A 1 (zI s 1))) (q + 5)))), ?_, fun j a b => va_up_ne _ _ a, ?_⟩
            · simp (maxDischargeDepth := 9) only [fX3_readOf, fX3_readOf_p29, fX3_readOf_p30, fX3_readOf_p54, fX3_readOf_p55, fX3_readOf_p84, fX3_readOf_p85, fX3_readOf_p119, fX3_readOf_p120, fX3_readOf_p155, fX3_readOf_p160, fX3_readOf_p181, xbind, xlet, xpure, tw_sel, tg_0, tg_4, tg_9, tg_12, tg_13, tg_14, tg_15, tg_16, tg_17, tg_18, tg_19, tg_20, tg_21, tg_24, tr_1, tr_2, tr_3, tr_5, tr_6, tr_7, tr_8, tr_10, tr_11, tr_22, tr_23, tp_0, tp_4, tp_9, tp_12, tp_13, tp_14, tp_15, tp_16, tp_17, tp_18, tp_19, tp_20, tp_21, tp_24, va_up_self, va_up_ne, va_uu, i_ofNat, i_add, i_mul, Nat.add_zero, Nat.zero_add, reduceIte, if_true, if_false, Nat.reduceEqDiff, ne_eq, not_false_eq_true, Nat.reduceEqDiff, not_true_eq_false, d1, xcon, h14, lneg, z_survive, u0, z_bear, u1, z_count, u2, z_adult, u3, fX3_readOf_p182, m1, m2, t_at2, eo, e6, ts_1 kx]
            · unfold gNumL
              revert o6
              cases gNum T len 0 (nn (A 1 (zI s 1))) (q + 5) with
              | inl e => exact fun o => oH.er o.l
              | inr r =>
                intro o
                refine ⟨oH.trans o.l, va_up_self _ _ _, fun t ht => ?_⟩
                rw [va_up_ne _ _ (by decide)]
                rw [va_up_ne _ _ (by unfold zI; omega)] at ht
                exact hF t ht
          | false =>
            rw [w3, b2i_f] at u3
            rw [w3, if_neg (by decide)] at v3
            rw [if_neg (by decide)]
            have K3 := K2.ok (B := A) v3 q1 rfl
            have y3 := y2.trans v3
            obtain ⟨J4, u4, v4, b_4⟩ := t_takesQ (Γ := Γ) (n := n) (Z := Z) K3 hq s_room (by decide)
            cases w4 : gWd T len w_room q with
            | true =>
              rw [w4, b2i_t] at u4
              rw [w4, if_pos rfl] at v4
              rw [if_pos rfl]
              have gl : q + 4 ≤ len := gWd_le q1 w4
              obtain ⟨HH, oH⟩ := good J4 (q + 4) (y3.trans v4) gl
              have m1 := t_must1 (Γ := Γ) (n := n) (m := m) (I := va_up J4 14 (Int32.ofNat q)) (A := A) (S := Z) (h := h) (k := Int32.ofNat 1)
              have m2 := t_hasFailed0 (Γ := Γ) (n := n) (m := m) (A := A) (S := Z) (h := h) HH.2.2.1
              have kx : zI s 3 < 592 := zI_lt (by omega) (by omega)
              obtain ⟨K, e6, o6⟩ := t_numberV (Γ := Γ) (n := n) (m := m) (Z := Z) (h := h) (lo := 1) (hi := 99999) (by decide) (by have := ho.2.1; omega) HH
              refine ⟨K, va_up A 1 (va_up (A 1) (zI s 3) (gV 1 (gNum T len 1 99999 (q + 4)))), ?_, fun j a b => va_up_ne _ _ a, ?_⟩
              · simp (maxDischargeDepth := 9) only [fX3_readOf, fX3_readOf_p29, fX3_readOf_p30, fX3_readOf_p54, fX3_readOf_p55, fX3_readOf_p84, fX3_readOf_p85, fX3_readOf_p119, fX3_readOf_p120, fX3_readOf_p155, fX3_readOf_p160, fX3_readOf_p181, xbind, xlet, xpure, tw_sel, tg_0, tg_4, tg_9, tg_12, tg_13, tg_14, tg_15, tg_16, tg_17, tg_18, tg_19, tg_20, tg_21, tg_24, tr_1, tr_2, tr_3, tr_5, tr_6, tr_7, tr_8, tr_10, tr_11, tr_22, tr_23, tp_0, tp_4, tp_9, tp_12, tp_13, tp_14, tp_15, tp_16, tp_17, tp_18, tp_19, tp_20, tp_21, tp_24, va_up_self, va_up_ne, va_uu, i_ofNat, i_add, i_mul, Nat.add_zero, Nat.zero_add, reduceIte, if_true, if_false, Nat.reduceEqDiff, ne_eq, not_false_eq_true, Nat.reduceEqDiff, not_true_eq_false, d1, xcon, h14, lneg, z_survive, u0, z_bear, u1, z_count, u2, z_adult, u3, z_room, u4, fX3_readOf_p182, m1, m2, t_at2, e6, ts_1 kx]
              · unfold gNumL
                revert o6
                cases gNum T len 1 99999 (q + 4) with
                | inl e => exact fun o => oH.er o.l
                | inr r =>
                  intro o
                  refine ⟨oH.trans o.l, va_up_self _ _ _, fun t ht => ?_⟩
                  rw [va_up_ne _ _ (by decide)]
                  rw [va_up_ne _ _ (by unfold zI; omega)] at ht
                  exact hF t ht
            | false =>
              rw [w4, b2i_f] at u4
              rw [w4, if_neg (by decide)] at v4
              rw [if_neg (by decide)]
              have K4 := K3.ok (B := A) v4 q1 rfl
              have y4 := y3.trans v4
              obtain ⟨J5, u5, v5, b_5⟩ := t_takesQ (Γ := Γ) (n := n) (Z := Z) K4 hq s_allow (by decide)
              cases w5 : gWd T len w_allow q with
              | true =>
                rw [w5, b2i_t] at u5
                rw [w5, if_pos rfl] at v5
                rw [if_pos rfl]
                have gl : q + 5 ≤ len := gWd_le q1 w5
                obtain ⟨HH, oH⟩ := good J5 (q + 5) (y4.trans v5) gl
                have m1 := t_must1 (Γ := Γ) (n := n) (m := m) (I := va_up J5 14 (Int32.ofNat q)) (A := A) (S := Z) (h := h) (k := Int32.ofNat 1)
                have m2 := t_hasFailed0 (Γ := Γ) (n := n) (m := m) (A := A) (S := Z) (h := h) HH.2.2.1
                obtain ⟨K, B, e6, r6, o6⟩ := t_readAllow (Γ := Γ) (n := n) (m := m) (h := h) hs0 hr hsn _ A Z HH rfl hF
                refine ⟨K, B, ?_, r6, ?_⟩
                · simp (maxDischargeDepth := 9) only [fX3_readOf, fX3_readOf_p29, fX3_readOf_p30, fX3_readOf_p54, fX3_readOf_p55, fX3_readOf_p84, fX3_readOf_p85, fX3_readOf_p119, fX3_readOf_p120, fX3_readOf_p155, fX3_readOf_p160, fX3_readOf_p181, xbind, xlet, xpure, tw_sel, tg_0, tg_4, tg_9, tg_12, tg_13, tg_14, tg_15, tg_16, tg_17, tg_18, tg_19, tg_20, tg_21, tg_24, tr_1, tr_2, tr_3, tr_5, tr_6, tr_7, tr_8, tr_10, tr_11, tr_22, tr_23, tp_0, tp_4, tp_9, tp_12, tp_13, tp_14, tp_15, tp_16, tp_17, tp_18, tp_19, tp_20, tp_21, tp_24, va_up_self, va_up_ne, va_uu, i_ofNat, i_add, i_mul, Nat.add_zero, Nat.zero_add, reduceIte, if_true, if_false, Nat.reduceEqDiff, ne_eq, not_false_eq_true, Nat.reduceEqDiff, not_true_eq_false, d1, xcon, h14, lneg, z_survive, u0, z_bear, u1, z_count, u2, z_adult, u3, z_room, u4, z_allow, u5, fX3_readOf_p182, m1, m2, e6]
                · revert o6
                  cases gAll T len s (q + 5) (A 1) TS with
                  | inl e => exact fun o => oH.er o
                  | inr r => exact fun o => ⟨oH.trans o.1, o.2⟩
              | false =>
                rw [w5, b2i_f] at u5
                rw [w5, if_neg (by decide)] at v5
                rw [if_neg (by decide)]
                have K5 := K4.ok (B := A) v5 q1 rfl
                have y5 := y4.trans v5
                obtain ⟨K, eK, oK⟩ := fail J5 _ y5
                refine ⟨K, A, ?_, fun _ _ _ => rfl, oK⟩
                simp (maxDischargeDepth := 9) only [fX3_readOf, fX3_readOf_p29, fX3_readOf_p30, fX3_readOf_p54, fX3_readOf_p55, fX3_readOf_p84, fX3_readOf_p85, fX3_readOf_p119, fX3_readOf_p120, fX3_readOf_p155, fX3_readOf_p160, fX3_readOf_p181, xbind, xlet, xpure, tw_sel, tg_0, tg_4, tg_9, tg_12, tg_13, tg_14, tg_15, tg_16, tg_17, tg_18, tg_19, tg_20, tg_21, tg_24, tr_1, tr_2, tr_3, tr_5, tr_6, tr_7, tr_8, tr_10, tr_11, tr_22, tr_23, tp_0, tp_4, tp_9, tp_12, tp_13, tp_14, tp_15, tp_16, tp_17, tp_18, tp_19, tp_20, tp_21, tp_24, va_up_self, va_up_ne, va_uu, i_ofNat, i_add, i_mul, Nat.add_zero, Nat.zero_add, reduceIte, if_true, if_false, Nat.reduceEqDiff, ne_eq, not_false_eq_true, Nat.reduceEqDiff, not_true_eq_false, d1, xcon, h14, lneg, z_survive, u0, z_bear, u1, z_count, u2, z_adult, u3, z_room, u4, z_allow, u5, eK]
theorem t_readLine {n q : Nat} {N : Nat → Int32} {TS : gTs} (hs : tStr Γ m h) (hr : rdN N TS) (hq : gBl T len q = q) (I : Nat → Int32) (A : Nat → Nat → Int32) (Z : Nat → Int64) (H : tPs T len I A q) (h14 : I 14 = Int32.ofNat q) (hA : A 1 = N) (hF : ∀ s, s < nn (N 0) → tFm (A 6) (1401 * s) (TS s)) :
    ∃ J B, fX3_readLine m Γ (tw m I A Z h) n = some (.inl (), tw m J B Z h, 0, 0) ∧ (∀ j, j ≠ 1 → j ≠ 6 → B j = A j) ∧ (match gLine T len q N TS with
      | .inl e => tEl I J e
      | .inr (p2, N2, TS2) => match gSg T len 59 p2 with
        | .inl e => tEl I J e
        | .inr p3 => tOl I J (gBl T len p3) ∧ J 14 = Int32.ofNat (gBl T len p3) ∧ B 1 = N2 ∧ ∀ s, s < nn (N2 0) → tFm (B 6) (1401 * s) (TS2 s)) := by
  have hs0 := hs
  obtain ⟨⟨a_year, z_year, s_year⟩, ⟨a_species, z_species, s_species⟩, -⟩ := hs
  have h9 : len ≤ 900 := H.2.2.2.2.2
  have q1 : q ≤ len := H.2.2.2.2.1
  have d1 : ¬ Int32.ofNat 1 = Int32.ofNat 0 := by decide
  have hk := gLine_ok (T := T) h9 q1 hr
  /- what comes behind the line -/
  have tail : ∀ (J : Nat → Int32) (B : Nat → Nat → Int32) (g : gL), gOkL len q g → (∀ j, j ≠ 1 → j ≠ 6 → B j = A j) → (match g with
      | .inl e => tEl I J e
      | .inr (p2, N2, TS2) => tOl I J p2 ∧ B 1 = N2 ∧ ∀ s, s < nn (N2 0) → tFm (B 6) (1401 * s) (TS2 s)) → ∃ K, fX3_readLine_p60 m Γ (tw m J B Z h) n = some (.inl (), tw m K B Z h, 0, 0) ∧ (match g with
      | .inl e => tEl I K e
      | .inr (p2, N2, TS2) => match gSg T len 59 p2 with
        | .inl e => tEl I K e
        | .inr p3 => tOl I K (gBl T len p3) ∧ K 14 = Int32.ofNat (gBl T len p3) ∧ B 1 = N2 ∧ ∀ s, s < nn (N2 0) → tFm (B 6) (1401 * s) (TS2 s)) := by
    intro J B g hk hB hg
    rcases g with e | ⟨p2, N2, TS2⟩
    · have g1 := hg.fail (Nat.le_trans hk.1 h9)
      have e1 := t_needsF (Γ := Γ) (n := n) (m := m) (A := B) (S := Z) (h := h) (c := Int32.ofNat 59) g1
      have e2 := t_blanks1 (Γ := Γ) (n := n) (m := m) (A := B) (S := Z) (h := h) g1
      refine ⟨J, ?_, hg⟩
      simp (maxDischargeDepth := 9) only [fX3_readLine_p60, xbind, xlet, xpure, tw_sel, tg_0, tg_4, tg_9, tg_12, tg_13, tg_14, tg_15, tg_16, tg_17, tg_18, tg_19, tg_20, tg_21, tg_24, tr_1, tr_2, tr_3, tr_5, tr_6, tr_7, tr_8, tr_10, tr_11, tr_22, tr_23, tp_0, tp_4, tp_9, tp_12, tp_13, tp_14, tp_15, tp_16, tp_17, tp_18, tp_19, tp_20, tp_21, tp_24, va_up_self, va_up_ne, va_uu, i_ofNat, i_add, i_mul, Nat.add_zero, Nat.zero_add, reduceIte, if_true, if_false, Nat.reduceEqDiff, ne_eq, not_false_eq_true, Nat.reduceEqDiff, not_true_eq_false, e1, e2]
    · obtain ⟨g1, g2, g3⟩ := hg
      have H1 : tPs T len J B p2 := H.ol g1 hk.2.1 (hB 8 (by decide) (by decide))
      dsimp only
      cases h3 : gSg T len 59 p2 with
      | inl e =>
        obtain ⟨K, e1, o1⟩ := t_needs0 (Γ := Γ) (n := n) (m := m) (S := Z) (h := h) H1 h3
        have e2 := t_blanks1 (Γ := Γ) (n := n) (m := m) (A := B) (S := Z) (h := h) (o1.fail (Nat.le_trans (gSg_er hk.2.1 h3).1 h9))
        refine ⟨K, ?_, g1.er o1.l⟩
        simp (maxDischargeDepth := 9) only [fX3_readLine_p60, xbind, xlet, xpure, tw_sel, tg_0, tg_4, tg_9, tg_12, tg_13, tg_14, tg_15, tg_16, tg_17, tg_18, tg_19, tg_20, tg_21, tg_24, tr_1, tr_2, tr_3, tr_5, tr_6, tr_7, tr_8, tr_10, tr_11, tr_22, tr_23, tp_0, tp_4, tp_9, tp_12, tp_13, tp_14, tp_15, tp_16, tp_17, tp_18, tp_19, tp_20, tp_21, tp_24, va_up_self, va_up_ne, va_uu, i_ofNat, i_add, i_mul, Nat.add_zero, Nat.zero_add, reduceIte, if_true, if_false, Nat.reduceEqDiff, ne_eq, not_false_eq_true, Nat.reduceEqDiff, not_true_eq_false, e1, e2]
      | inr p3 =>
        obtain ⟨K, e1, o1⟩ := t_needs1 (Γ := Γ) (n := n) (m := m) (S := Z) (h := h) H1 h3
        have a3 := gSg_ok h3
        obtain ⟨K2, e2, o2, b2⟩ := t_bl (Γ := Γ) (n := n) (m := m) (S := Z) (h := h) (H1.ok (B := B) o1 a3.2 rfl)
        refine ⟨K2, ?_, g1.trans (o1.trans o2).l, b2, g2, g3⟩
        simp (maxDischargeDepth := 9) only [fX3_readLine_p60, xbind, xlet, xpure, tw_sel, tg_0, tg_4, tg_9, tg_12, tg_13, tg_14, tg_15, tg_16, tg_17, tg_18, tg_19, tg_20, tg_21, tg_24, tr_1, tr_2, tr_3, tr_5, tr_6, tr_7, tr_8, tr_10, tr_11, tr_22, tr_23, tp_0, tp_4, tp_9, tp_12, tp_13, tp_14, tp_15, tp_16, tp_17, tp_18, tp_19, tp_20, tp_21, tp_24, va_up_self, va_up_ne, va_uu, i_ofNat, i_add, i_mul, Nat.add_zero, Nat.zero_add, reduceIte, if_true, if_false, Nat.reduceEqDiff, ne_eq, not_false_eq_true, Nat.reduceEqDiff, not_true_eq_false, e1, e2]
  obtain ⟨J0, u0, v0, b0⟩ := t_takesQ (Γ := Γ) (n := n) (Z := Z) H hq s_year (by decide)
  unfold gLine at hk ⊢
  cases w0 : gWd T len w_year q with
  | true =>
    rw [w0, b2i_t] at u0
    rw [w0, if_pos rfl] at v0 hk
    rw [if_pos rfl]
    have gl : q + 4 ≤ len := gWd_le q1 w0
    have v0 : tOk I J0 (q + 4) := v0
    have K0 := H.ok (B := A) v0 gl rfl
    obtain ⟨K, e6, o6⟩ := t_numberV (Γ := Γ) (n := n) (m := m) (Z := Z) (h := h) (lo := 0) (hi := 9999) (by decide) (by decide) K0
    obtain ⟨K2, e7, o7⟩ := tail K (va_up A 1 (va_up (A 1) 1 (gV 0 (gNum T len 0 9999 (q + 4))))) (gNumL T len 1 0 9999 (q + 4) N TS) hk (fun j a b => va_up_ne _ _ a) (by
        unfold gNumL
        revert o6
        cases gNum T len 0 9999 (q + 4) with
        | inl e => exact fun o => (v0.er o).l
        | inr r =>
          intro o
          refine ⟨(v0.trans o).l, by rw [va_up_self, hA]; rfl, fun t ht => ?_⟩
          rw [va_up_ne _ _ (by decide)]
          rw [va_up_ne _ _ (by decide)] at ht
          exact hF t ht)
    refine ⟨K2, _, ?_, fun j a b => va_up_ne _ _ a, o7⟩
    simp (maxDischargeDepth := 9) only [fX3_readLine, xbind, xlet, xpure, tw_sel, tg_0, tg_4, tg_9, tg_12, tg_13, tg_14, tg_15, tg_16, tg_17, tg_18, tg_19, tg_20, tg_21, tg_24, tr_1, tr_2, tr_3, tr_5, tr_6, tr_7, tr_8, tr_10, tr_11, tr_22, tr_23, tp_0, tp_4, tp_9, tp_12, tp_13, tp_14, tp_15, tp_16, tp_17, tp_18, tp_19, tp_20, tp_21, tp_24, va_up_self, va_up_ne, va_uu, i_ofNat, i_add, i_mul, Nat.add_zero, Nat.zero_add, reduceIte, if_true, if_false, Nat.reduceEqDiff, ne_eq, not_false_eq_true, Nat.reduceEqDiff, not_true_eq_false, xcon, h14, z_year, u0, d1, e6, ts_1 (show 1 < 592 by omega), e7]
  | false =>
    rw [w0, b2i_f] at u0
    rw [w0, if_neg (by decide)] at v0 hk
    rw [if_neg (by decide)]
    have K0 := H.ok (B := A) v0 q1 rfl
    obtain ⟨J1, u1, v1, b1⟩ := t_takesQ (Γ := Γ) (n := n) (Z := Z) K0 hq s_species (by decide)
    cases w1 : gWd T len w_species q with
    | true =>
      rw [w1, b2i_t] at u1
      rw [w1, if_pos rfl] at v1 hk
      rw [if_pos rfl]
      have gl : q + 7 ≤ len := gWd_le q1 w1
      have K1 := K0.ok (B := A) v1 gl rfl
      obtain ⟨K, B, e6, r6, o6⟩ := t_readSpecies (Γ := Γ) (m := m) (h := h) hr J1 A Z n K1 q1 hA hF
      have oo := (v0.trans v1).l
      obtain ⟨K2, e7, o7⟩ := tail K B (gSpec T len q (q + 7) N TS) hk r6 (by
        revert o6
        have e77 : q + w_species.length = q + 7 := rfl
        rw [e77] at *
        cases gSpec T len q (q + 7) N TS with
        | inl e => exact fun o => oo.er o
        | inr r => exact fun o => ⟨oo.trans o.1, o.2⟩)
      refine ⟨K2, B, ?_, r6, o7⟩
      simp (maxDischargeDepth := 9) only [fX3_readLine, xbind, xlet, xpure, tw_sel, tg_0, tg_4, tg_9, tg_12, tg_13, tg_14, tg_15, tg_16, tg_17, tg_18, tg_19, tg_20, tg_21, tg_24, tr_1, tr_2, tr_3, tr_5, tr_6, tr_7, tr_8, tr_10, tr_11, tr_22, tr_23, tp_0, tp_4, tp_9, tp_12, tp_13, tp_14, tp_15, tp_16, tp_17, tp_18, tp_19, tp_20, tp_21, tp_24, va_up_self, va_up_ne, va_uu, i_ofNat, i_add, i_mul, Nat.add_zero, Nat.zero_add, reduceIte, if_true, if_false, Nat.reduceEqDiff, ne_eq, not_false_eq_true, Nat.reduceEqDiff, not_true_eq_false, xcon, h14, z_year, u0, z_species, u1, d1, e6, e7]
    | false =>
      rw [w1, b2i_f] at u1
      rw [w1, if_neg (by decide)] at v1 hk
      rw [if_neg (by decide)]
      have K1 := K0.ok (B := A) v1 q1 rfl
      obtain ⟨K, B, e6, r6, o6⟩ := t_readOf (Γ := Γ) (n := n) (m := m) (h := h) hs0 hr hq J1 A Z K1 b1 hA hF
      have oo := (v0.trans v1).l
      obtain ⟨K2, e7, o7⟩ := tail K B (gOf T len q N TS) hk r6 (by
        revert o6
        cases gOf T len q N TS with
        | inl e => exact fun o => oo.er o
        | inr r => exact fun o => ⟨oo.trans o.1, o.2⟩)
      refine ⟨K2, B, ?_, r6, o7⟩
      rw [← hA] at e6
      simp (maxDischargeDepth := 9) only [fX3_readLine, xbind, xlet, xpure, tw_sel, tg_0, tg_4, tg_9, tg_12, tg_13, tg_14, tg_15, tg_16, tg_17, tg_18, tg_19, tg_20, tg_21, tg_24, tr_1, tr_2, tr_3, tr_5, tr_6, tr_7, tr_8, tr_10, tr_11, tr_22, tr_23, tp_0, tp_4, tp_9, tp_12, tp_13, tp_14, tp_15, tp_16, tp_17, tp_18, tp_19, tp_20, tp_21, tp_24, va_up_self, va_up_ne, va_uu, i_ofNat, i_add, i_mul, Nat.add_zero, Nat.zero_add, reduceIte, if_true, if_false, Nat.reduceEqDiff, ne_eq, not_false_eq_true, Nat.reduceEqDiff, not_true_eq_false, xcon, h14, z_year, u0, z_species, u1, tl_1 (show 0 < 592 by omega), e6, e7]
end TP12
