/-! part 467: the twin's parser: a factor -/
section TP8
variable {Γ : Nat → Option Nat} {m : Nat} {h : xH} {T : Nat → Int32} {len f : Nat} {X : Nat → xM Unit} {G : Nat → Nat → gR}
theorem t_takesQ {n p a : Nat} {I : Nat → Int32} {A : Nat → Nat → Int32} {Z : Nat → Int64} {w : List Nat} (H : tPs T len I A p) (hq : gBl T len p = p) (hs : sT m h a w) (hw : w.length < 100) : ∃ J, fX3_takes m (some a) Γ (tw m I A Z h) n = some (.inl (b2i (gWd T len w p)), tw m J A Z h, 0, 0) ∧ tOk I J (if gWd T len w p = true then p + w.length else p) ∧ J 14 = Int32.ofNat p := by
  have := t_takes (Γ := Γ) (n := n) (S := Z) H hs hw
  rw [hq] at this
  exact this
theorem t_factW {n p q k : Nat} {ts0 : List (Nat × Int32)} {I J : Nat → Int32} {A : Nat → Nat → Int32} {Z : Nat → Int64} (hf : f + 1400 < 5604) (o : tOk I J q) (H : tPs T len J A q) (h20 : J 20 = Int32.ofNat f) (hF : tFm (A 6) f ts0) (hb : 2 * tlen ts0 ≤ 3 * p) (hp : p ≤ len) (h1 : 1 ≤ k) (h4 : k ≤ 4) : ∃ K R, fX3_readFactor_p167 X m (Int32.ofNat k) Γ (tw m J A Z h) n = some (.inl (), tw m K (va_up A 6 R) Z h, 0, 0) ∧ (∀ j, (j < f ∨ f + 1400 < j) → R j = A 6 j) ∧ tOk I K q ∧ tFm R f (ts0 ++ [(k, 0)]) := by
  have h9 : len ≤ 900 := H.2.2.2.2.2
  have c1 : ¬ Int32.ofNat k = -Int32.ofNat 1 := by
    intro z
    have z1 := congrArg Int32.toInt z
    rw [i_toInt (by omega)] at z1
    have z2 : (-Int32.ofNat 1).toInt = -1 := by decide
    omega
  obtain ⟨R, e1, r1, F1⟩ := t_put (Γ := Γ) (n := n) (m := m) (S := Z) (h := h) (k := k) H.2.2.1 h20 hF (by omega) hf h1 (by omega)
  have e2 := t_must1 (Γ := Γ) (n := n) (m := m) (I := J) (A := A) (S := Z) (h := h) (k := Int32.ofNat 1)
  refine ⟨J, R, ?_, r1, o, F1⟩
  simp (maxDischargeDepth := 9) only [fX3_readFactor_p167, fX3_readFactor_p179, xbind, xlet, xpure, tw_sel, tg_0, tg_4, tg_9, tg_12, tg_13, tg_14, tg_15, tg_16, tg_17, tg_18, tg_19, tg_20, tg_21, tg_24, tr_1, tr_2, tr_3, tr_5, tr_6, tr_7, tr_8, tr_10, tr_11, tr_22, tr_23, tp_0, tp_4, tp_9, tp_12, tp_13, tp_14, tp_15, tp_16, tp_17, tp_18, tp_19, tp_20, tp_21, tp_24, va_up_self, va_up_ne, va_uu, i_ofNat, i_add, i_mul, Nat.add_zero, Nat.zero_add, reduceIte, if_true, if_false, Nat.reduceEqDiff, ne_eq, not_false_eq_true, Nat.reduceEqDiff, not_true_eq_false, c1, e1, e2]
theorem t_readFactor {k p : Nat} (hs : tStr Γ m h) (hX : k < 4 → ∀ p, p ≤ len → tFc Γ m h T len f (X m) (k + 1) p (G (k + 1) p)) (hG : ∀ k p, k ≤ 4 → p ≤ len → gOk len p (G k p)) (hf : f + 1400 < 5604) (hk : k ≤ 4) : tFc Γ m h T len f (fX3_readFactor X m) k p (gFac T len G k p) := by
  intro I A Z n ts0 H h20 h21 hF hb
  obtain ⟨⟨a_year, z_year, s_year⟩, -, -, -, -, -, -, -, ⟨a_min, z_min, s_min⟩, ⟨a_max, z_max, s_max⟩, ⟨a_total, z_total, s_total⟩, ⟨a_adults, z_adults, s_adults⟩, ⟨a_newborn, z_newborn, s_newborn⟩⟩ := hs
  have h9 : len ≤ 900 := H.2.2.2.2.2
  have hp : p ≤ len := H.2.2.2.2.1
  have d1 : ¬ Int32.ofNat 1 = Int32.ofNat 0 := by decide
  obtain ⟨J, e1, o1, b1⟩ := t_bl (Γ := Γ) (n := n) (m := m) (S := Z) (h := h) H
  have q0 := gBl_ge (T := T) (len := len) (p := p)
  have q1 := gBl_le (T := T) hp
  have qi := gBl_idem (T := T) (len := len) (p := p)
  have H1 := H.ok (B := A) o1 q1 rfl
  unfold gFac
  generalize gBl T len p = q at *
  have i20 : J 20 = Int32.ofNat f := by rw [o1.2 20 (by decide) (by decide)]; exact h20
  have i21 : J 21 = Int32.ofNat k := by rw [o1.2 21 (by decide) (by decide)]; exact h21
  have e2 := t_hasFailed0 (Γ := Γ) (n := n) (m := m) (A := A) (S := Z) (h := h) H1.2.2.1
  have e3 := fun lo hi => t_isAt (Γ := Γ) (n := n) (m := m) (A := A) (S := Z) (h := h) (lo := lo) (hi := hi) H1.1 H1.2.1 h9 (by omega)
  rw [H1.2.2.2.1] at e3
  unfold gFacQ
  cases hd : pAt T len q (Int32.ofNat 48) (Int32.ofNat 57) with
  | true =>
    rw [if_pos rfl]
    have e4 := e3 (Int32.ofNat 48) (Int32.ofNat 57)
    rw [hd, b2i_t] at e4
    obtain ⟨K, e5, o5⟩ := t_number (Γ := Γ) (n := n) (m := m) (S := Z) (h := h) (lo := 0) (hi := 999999) (by decide) (by decide) H1
    unfold gLit
    cases hn : gNum T len 0 999999 q with
    | inl e =>
      rw [hn] at e5 o5
      have g := o5.fail (Nat.le_trans (gNum_er q1 hn) h9)
      have e6 := fun v => t_putsF (Γ := Γ) (n := n) (m := m) (I := K) (A := A) (S := Z) (h := h) (v := v) g
      refine ⟨K, A 6, ?_, fun _ _ => rfl, o1.er o5⟩
      rw [va_id]
      simp (maxDischargeDepth := 9) only [fX3_readFactor, xbind, xlet, xpure, tw_sel, tg_0, tg_4, tg_9, tg_12, tg_13, tg_14, tg_15, tg_16, tg_17, tg_18, tg_19, tg_20, tg_21, tg_24, tr_1, tr_2, tr_3, tr_5, tr_6, tr_7, tr_8, tr_10, tr_11, tr_22, tr_23, tp_0, tp_4, tp_9, tp_12, tp_13, tp_14, tp_15, tp_16, tp_17, tp_18, tp_19, tp_20, tp_21, tp_24, va_up_self, va_up_ne, va_uu, i_ofNat, i_add, i_mul, Nat.add_zero, Nat.zero_add, reduceIte, if_true, if_false, Nat.reduceEqDiff, ne_eq, not_false_eq_true, Nat.reduceEqDiff, not_true_eq_false, e1, e2, e4, d1, e5, e6]
    | inr r =>
      obtain ⟨v, e'⟩ := r
      rw [hn] at e5 o5
      have g := gNum_ok q1 hn
      have HK := H1.ok (B := A) o5 g.2.1 rfl
      obtain ⟨R1, R, e6, e7, r6, F6⟩ := t_put0 (Γ := Γ) (n := n) (m := m) (S := Z) (h := h) (ts := ts0) (Int32.ofNat v) HK.2.2.1 (by rw [o5.2 20 (by decide) (by decide)]; exact i20) hF (by omega) hf
      refine ⟨K, R, ?_, r6, o1.trans o5, F6⟩
      simp (maxDischargeDepth := 9) only [fX3_readFactor, xbind, xlet, xpure, tw_sel, tg_0, tg_4, tg_9, tg_12, tg_13, tg_14, tg_15, tg_16, tg_17, tg_18, tg_19, tg_20, tg_21, tg_24, tr_1, tr_2, tr_3, tr_5, tr_6, tr_7, tr_8, tr_10, tr_11, tr_22, tr_23, tp_0, tp_4, tp_9, tp_12, tp_13, tp_14, tp_15, tp_16, tp_17, tp_18, tp_19, tp_20, tp_21, tp_24, va_up_self, va_up_ne, va_uu, i_ofNat, i_add, i_mul, Nat.add_zero, Nat.zero_add, reduceIte, if_true, if_false, Nat.reduceEqDiff, ne_eq, not_false_eq_true, Nat.reduceEqDiff, not_true_eq_false, e1, e2, e4, d1, e5, e6, e7]
  | false =>
    have e4 := e3 (Int32.ofNat 48) (Int32.ofNat 57)
    rw [hd, b2i_f] at e4
    rw [if_neg (by decide)]
    cases hp4 : pAt T len q (Int32.ofNat 40) (Int32.ofNat 40) with
    | true =>
      rw [if_pos rfl]
      have e5 := e3 (Int32.ofNat 40) (Int32.ofNat 40)
      rw [hp4, b2i_t] at e5
      obtain ⟨K, R, e6, r6, o6⟩ := t_bra (p := q) hX hG hk J A Z n ts0 H1 i20 i21 hF (by omega)
      refine ⟨K, R, ?_, r6, ?_⟩
      · rw [← e6, fX3_readFactor, x_b1 (tw_sel.trans e1), x_b1 (tw_sel.trans e2), if_pos (show Int32.ofNat 0 = 0 from rfl), x_b1 (tw_sel.trans e4), if_pos (show Int32.ofNat 0 = 0 from rfl), x_b1 (tw_sel.trans e5), if_neg (show ¬ Int32.ofNat 1 = 0 from d1)]
      · split at o6
        · exact o1.er o6
        · exact ⟨o1.trans o6.1, o6.2⟩
    | false =>
      rw [if_neg (by decide)]
      have e5 := e3 (Int32.ofNat 40) (Int32.ofNat 40)
      rw [hp4, b2i_f] at e5
      obtain ⟨J0, u0, v0, b_0⟩ := t_takesQ (Γ := Γ) (n := n) (Z := Z) H1 qi s_min (by decide)
      cases w0 : gWd T len w_min q with
      | true =>
        rw [w0, b2i_t] at u0
        rw [w0, if_pos rfl] at v0
        rw [if_pos rfl]
        have gl : q + 3 ≤ len := gWd_le q1 w0
        have K0 := H1.ok (B := A) v0 gl rfl
        have x20 : J0 20 = Int32.ofNat f := by rw [v0.2 20 (by decide) (by decide)]; exact i20
        have x21 : J0 21 = Int32.ofNat k := by rw [v0.2 21 (by decide) (by decide)]; exact i21
        obtain ⟨K, R, e6, r6, o6⟩ := t_readPair (p := q + 3) hX hG hf (show 5 ≤ 9 by decide) (by decide) hk J0 A Z n ts0 K0 x20 x21 hF (by omega)
        refine ⟨K, R, ?_, r6, ?_⟩
        · simp (maxDischargeDepth := 9) only [fX3_readFactor, xbind, xlet, xpure, tw_sel, tg_0, tg_4, tg_9, tg_12, tg_13, tg_14, tg_15, tg_16, tg_17, tg_18, tg_19, tg_20, tg_21, tg_24, tr_1, tr_2, tr_3, tr_5, tr_6, tr_7, tr_8, tr_10, tr_11, tr_22, tr_23, tp_0, tp_4, tp_9, tp_12, tp_13, tp_14, tp_15, tp_16, tp_17, tp_18, tp_19, tp_20, tp_21, tp_24, va_up_self, va_up_ne, va_uu, i_ofNat, i_add, i_mul, Nat.add_zero, Nat.zero_add, reduceIte, if_true, if_false, Nat.reduceEqDiff, ne_eq, not_false_eq_true, Nat.reduceEqDiff, not_true_eq_false, e1, e2, e4, e5, d1, xcon, z_min, u0, e6]
        · split at o6
          · exact (o1.trans v0).er o6
          · exact ⟨(o1.trans v0).trans o6.1, o6.2⟩
      | false =>
        rw [w0, b2i_f] at u0
        rw [w0, if_neg (by decide)] at v0
        rw [if_neg (by decide)]
        have K0 := H1.ok (B := A) v0 q1 rfl
        have x020 : J0 20 = Int32.ofNat f := by rw [v0.2 20 (by decide) (by decide)]; exact i20
        have x021 : J0 21 = Int32.ofNat k := by rw [v0.2 21 (by decide) (by decide)]; exact i21
        have y0 := o1.trans v0
        obtain ⟨J1, u1, v1, b_1⟩ := t_takesQ (Γ := Γ) (n := n) (Z := Z) K0 qi s_max (by decide)
        cases w1 : gWd T len w_max q with
        | true =>
          rw [w1, b2i_t] at u1
          rw [w1, if_pos rfl] at v1
          rw [if_pos rfl]
          have gl : q + 3 ≤ len := gWd_le q1 w1
          have K1 := K0.ok (B := A) v1 gl rfl
          have x20 : J1 20 = Int32.ofNat f := by rw [v1.2 20 (by decide) (by decide)]; exact x020
          have x21 : J1 21 = Int32.ofNat k := by rw [v1.2 21 (by decide) (by decide)]; exact x021
          obtain ⟨K, R, e6, r6, o6⟩ := t_readPair (p := q + 3) hX hG hf (show 5 ≤ 10 by decide) (by decide) hk J1 A Z n ts0 K1 x20 x21 hF (by omega)
          refine ⟨K, R, ?_, r6, ?_⟩
          · simp (maxDischargeDepth := 9) only [fX3_readFactor, xbind, xlet, xpure, tw_sel, tg_0, tg_4, tg_9, tg_12, tg_13, tg_14, tg_15, tg_16, tg_17, tg_18, tg_19, tg_20, tg_21, tg_24, tr_1, tr_2, tr_3, tr_5, tr_6, tr_7, tr_8, tr_10, tr_11, tr_22, tr_23, tp_0, tp_4, tp_9, tp_12, tp_13, tp_14, tp_15, tp_16, tp_17, tp_18, tp_19, tp_20, tp_21, tp_24, va_up_self, va_up_ne, va_uu, i_ofNat, i_add, i_mul, Nat.add_zero, Nat.zero_add, reduceIte, if_true, if_false, Nat.reduceEqDiff, ne_eq, not_false_eq_true, Nat.reduceEqDiff, not_true_eq_false, e1, e2, e4, e5, d1, xcon, z_min, u0, z_max, u1, e6]
          · split at o6
            · exact (y0.trans v1).er o6
            · exact ⟨(y0.trans v1).trans o6.1, o6.2⟩
        | false =>
          rw [w1, b2i_f] at u1
          rw [w1, if_neg (by decide)] at v1
          rw [if_neg (by decide)]
          have K1 := K0.ok (B := A) v1 q1 rfl
          have x120 : J1 20 = Int32.ofNat f := by rw [v1.2 20 (by decide) (by decide)]; exact x020
          have x121 : J1 21 = Int32.ofNat k := by rw [v1.2 21 (by decide) (by decide)]; exact x021
          have y1 := y0.trans v1
          obtain ⟨J2, u2, v2, b_2⟩ := t_takesQ (Γ := Γ) (n := n) (Z := Z) K1 qi s_total (by decide)
          cases w2 : gWd T len w_total q with
          | true =>
            rw [w2, b2i_t] at u2
            rw [w2, if_pos rfl] at v2
            rw [if_pos rfl]
            have gl : q + 5 ≤ len := gWd_le q1 w2
            have K2 := K1.ok (B := A) v2 gl rfl
            have x20 : J2 20 = Int32.ofNat f := by rw [v2.2 20 (by decide) (by decide)]; exact x120
            obtain ⟨K, R, e6, r6, o6, F6⟩ := t_factW (Γ := Γ) (m := m) (h := h) (X := X) (n := n) (Z := Z) (p := q) (k := 1) hf (y1.trans v2) K2 x20 hF (by omega) q1 (by decide) (by decide)
            refine ⟨K, R, ?_, r6, o6, F6⟩
            simp (maxDischargeDepth := 9) only [fX3_readFactor, xbind, xlet, xpure, tw_sel, tg_0, tg_4, tg_9, tg_12, tg_13, tg_14, tg_15, tg_16, tg_17, tg_18, tg_19, tg_20, tg_21, tg_24, tr_1, tr_2, tr_3, tr_5, tr_6, tr_7, tr_8, tr_10, tr_11, tr_22, tr_23, tp_0, tp_4, tp_9, tp_12, tp_13, tp_14, tp_15, tp_16, tp_17, tp_18, tp_19, tp_20, tp_21, tp_24, va_up_self, va_up_ne, va_uu, i_ofNat, i_add, i_mul, Nat.add_zero, Nat.zero_add, reduceIte, if_true, if_false, Nat.reduceEqDiff, ne_eq, not_false_eq_true, Nat.reduceEqDiff, not_true_eq_false, e1, e2, e4, e5, d1, xcon, z_min, u0, z_max, u1, z_total, u2, e6]
          | false =>
            rw [w2, b2i_f] at u2
            rw [w2, if_neg (by decide)] at v2
            rw [if_neg (by decide)]
            have K2 := K1.ok (B := A) v2 q1 rfl
            have x220 : J2 20 = Int32.ofNat f := by rw [v2.2 20 (by decide) (by decide)]; exact x120
            have x221 : J2 21 = Int32.ofNat k := by rw [v2.2 21 (by decide) (by decide)]; exact x121
            have y2 := y1.trans v2
            obtain ⟨J3, u3, v3, b_3⟩ := t_takesQ (Γ := Γ) (n := n) (Z := Z) K2 qi s_adults (by decide)
            cases w3 : gWd T len w_adults q with
            | true =>
              rw [w3, b2i_t] at u3
              rw [w3, if_pos rfl] at v3
              rw [if_pos rfl]
              have gl : q + 6 ≤ len := gWd_le q1 w3
              have K3 := K2.ok (B := A) v3 gl rfl
              have x20 : J3 20 = Int32.ofNat f := by rw [v3.2 20 (by decide) (by decide)]; exact x220
              obtain ⟨K, R, e6, r6, o6, F6⟩ := t_factW (Γ := Γ) (m := m) (h := h) (X := X) (n := n) (Z := Z) (p := q) (k := 2) hf (y2.trans v3) K3 x20 hF (by omega) q1 (by decide) (by decide)
              refine ⟨K, R, ?_, r6, o6, F6⟩
              simp (maxDischargeDepth := 9) only [fX3_readFactor, xbind, xlet, xpure, tw_sel, tg_0, tg_4, tg_9, tg_12, tg_13, tg_14, tg_15, tg_16, tg_17, tg_18, tg_19, tg_20, tg_21, tg_24, tr_1, tr_2, tr_3, tr_5, tr_6, tr_7, tr_8, tr_10, tr_11, tr_22, tr_23, tp_0, tp_4, tp_9, tp_12, tp_13, tp_14, tp_15, tp_16, tp_17, tp_18, tp_19, tp_20, tp_21, tp_24, va_up_self, va_up_ne, va_uu, i_ofNat, i_add, i_mul, Nat.add_zero, Nat.zero_add, reduceIte, if_true, if_false, Nat.reduceEqDiff, ne_eq, not_false_eq_true, Nat.reduceEqDiff, not_true_eq_false, e1, e2, e4, e5, d1, xcon, z_min, u0, z_max, u1, z_total, u2, z_adults, u3, e6]
            | false =>
              rw [w3, b2i_f] at u3
              rw [w3, if_neg (by decide)] at v3
              rw [if_neg (by decide)]
              have K3 := K2.ok (B := A) v3 q1 rfl
              have x320 : J3 20 = Int32.ofNat f := by rw [v3.2 20 (by decide) (by decide)]; exact x220
              have x321 : J3 21 = Int32.ofNat k := by rw [v3.2 21 (by decide) (by decide)]; exact x221
              have y3 := y2.trans v3
              obtain ⟨J4, u4, v4, b_4⟩ := t_takesQ (Γ := Γ) (n := n) (Z := Z) K3 qi s_newborn (by decide)
              cases w4 : gWd T len w_newborn q with
              | true =>
                rw [w4, b2i_t] at u4
                rw [w4, if_pos rfl] at v4
                rw [if_pos rfl]
                have gl : q + 7 ≤ len := gWd_le q1 w4
                have K4 := K3.ok (B := A) v4 gl rfl
                have x20 : J4 20 = Int32.ofNat f := by rw [v4.2 20 (by decide) (by decide)]; exact x320
                obtain ⟨K, R, e6, r6, o6, F6⟩ := t_factW (Γ := Γ) (m := m) (h := h) (X := X) (n := n) (Z := Z) (p := q) (k := 3) hf (y3.trans v4) K4 x20 hF (by omega) q1 (by decide) (by decide)
                refine ⟨K, R, ?_, r6, o6, F6⟩
                simp (maxDischargeDepth := 9) only [fX3_readFactor, xbind, xlet, xpure, tw_sel, tg_0, tg_4, tg_9, tg_12, tg_13, tg_14, tg_15, tg_16, tg_17, tg_18, tg_19, tg_20, tg_21, tg_24, tr_1, tr_2, tr_3, tr_5, tr_6, tr_7, tr_8, tr_10, tr_11, tr_22, tr_23, tp_0, tp_4, tp_9, tp_12, tp_13, tp_14, tp_15, tp_16, tp_17, tp_18, tp_19, tp_20, tp_21, tp_24, va_up_self, va_up_ne, va_uu, i_ofNat, i_add, i_mul, Nat.add_zero, Nat.zero_add, reduceIte, if_true, if_false, Nat.reduceEqDiff, ne_eq, not_false_eq_true, Nat.reduceEqDiff, not_true_eq_false, e1, e2, e4, e5, d1, xcon, z_min, u0, z_max, u1, z_total, u2, z_adults, u3, z_newborn, u4, e6]
              | false =>
                rw [w4, b2i_f] at u4
                rw [w4, if_neg (by decide)] at v4
                rw [if_neg (by decide)]
                have K4 := K3.ok (B := A) v4 q1 rfl
                have x420 : J4 20 = Int32.ofNat f := by rw [v4.2 20 (by decide) (by decide)]; exact x320
                have x421 : J4 21 = Int32.ofNat k := by rw [v4.2 21 (by decide) (by decide)]; exact x321
                have y4 := y3.trans v4
                obtain ⟨J5, u5, v5, b_5⟩ := t_takesQ (Γ := Γ) (n := n) (Z := Z) K4 qi s_year (by decide)
                cases w5 : gWd T len w_year q with
                | true =>
                  rw [w5, b2i_t] at u5
                  rw [w5, if_pos rfl] at v5
                  rw [if_pos rfl]
                  have gl : q + 4 ≤ len := gWd_le q1 w5
                  have K5 := K4.ok (B := A) v5 gl rfl
                  have x20 : J5 20 = Int32.ofNat f := by rw [v5.2 20 (by decide) (by decide)]; exact x420
                  obtain ⟨K, R, e6, r6, o6, F6⟩ := t_factW (Γ := Γ) (m := m) (h := h) (X := X) (n := n) (Z := Z) (p := q) (k := 4) hf (y4.trans v5) K5 x20 hF (by omega) q1 (by decide) (by decide)
                  refine ⟨K, R, ?_, r6, o6, F6⟩
                  simp (maxDischargeDepth := 9) only [fX3_readFactor, xbind, xlet, xpure, tw_sel, tg_0, tg_4, tg_9, tg_12, tg_13, tg_14, tg_15, tg_16, tg_17, tg_18, tg_19, tg_20, tg_21, tg_24, tr_1, tr_2, tr_3, tr_5, tr_6, tr_7, tr_8, tr_10, tr_11, tr_22, tr_23, tp_0, tp_4, tp_9, tp_12, tp_13, tp_14, tp_15, tp_16, tp_17, tp_18, tp_19, tp_20, tp_21, tp_24, va_up_self, va_up_ne, va_uu, i_ofNat, i_add, i_mul, Nat.add_zero, Nat.zero_add, reduceIte, if_true, if_false, Nat.reduceEqDiff, ne_eq, not_false_eq_true, Nat.reduceEqDiff, not_true_eq_false, e1, e2, e4, e5, d1, xcon, z_min, u0, z_max, u1, z_total, u2, z_adults, u3, z_newborn, u4, z_year, u5, e6]
                | false =>
                  rw [w5, b2i_f] at u5
                  rw [w5, if_neg (by decide)] at v5
                  rw [if_neg (by decide)]
                  have K5 := K4.ok (B := A) v5 q1 rfl
                  have x520 : J5 20 = Int32.ofNat f := by rw [v5.2 20 (by decide) (by decide)]; exact x420
                  have x521 : J5 21 = Int32.ofNat k := by rw [v5.2 21 (by decide) (by decide)]; exact x421
                  have y5 := y4.trans v5
                  obtain ⟨K, e6, o6⟩ := t_must0e (Γ := Γ) (n := n) (m := m) (A := A) (S := Z) (h := h) (k := 1) K5.2.2.1 b_5
                  have e7 := t_putsF (Γ := Γ) (n := n) (m := m) (I := K) (A := A) (S := Z) (h := h) (v := -Int32.ofNat 1) (o6.fail (Nat.le_trans q1 h9))
                  refine ⟨K, A 6, ?_, fun _ _ => rfl, y5.er o6⟩
                  rw [va_id]
                  simp (maxDischargeDepth := 9) only [fX3_readFactor, xbind, xlet, xpure, tw_sel, tg_0, tg_4, tg_9, tg_12, tg_13, tg_14, tg_15, tg_16, tg_17, tg_18, tg_19, tg_20, tg_21, tg_24, tr_1, tr_2, tr_3, tr_5, tr_6, tr_7, tr_8, tr_10, tr_11, tr_22, tr_23, tp_0, tp_4, tp_9, tp_12, tp_13, tp_14, tp_15, tp_16, tp_17, tp_18, tp_19, tp_20, tp_21, tp_24, va_up_self, va_up_ne, va_uu, i_ofNat, i_add, i_mul, Nat.add_zero, Nat.zero_add, reduceIte, if_true, if_false, Nat.reduceEqDiff, ne_eq, not_false_eq_true, Nat.reduceEqDiff, not_true_eq_false, e1, e2, e4, e5, d1, xcon, z_min, u0, z_max, u1, z_total, u2, z_adults, u3, z_newborn, u4, z_year, u5, fX3_readFactor_p167, fX3_readFactor_p179, e6, e7]
end TP8
