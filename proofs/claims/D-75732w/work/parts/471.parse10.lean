/-! part 471: the twin's parser: lines -/
/-- the steps c read a line's part from p on as g says -/
def tLc (Γ : Nat → Option Nat) (m : Nat) (h : xH) (T : Nat → Int32) (len : Nat) (c : xM Unit) (p : Nat) (N : Nat → Int32) (TS : gTs) (g : gL) : Prop :=
  ∀ (I : Nat → Int32) (A : Nat → Nat → Int32) (Z : Nat → Int64) (n : Nat), tPs T len I A p → I 14 = Int32.ofNat p → A 1 = N → (∀ s, s < nn (N 0) → tFm (A 6) (1401 * s) (TS s)) →
    ∃ J B, c Γ (tw m I A Z h) n = some (.inl (), tw m J B Z h, 0, 0) ∧ (∀ j, j ≠ 1 → j ≠ 6 → B j = A j) ∧ (match g with
      | .inl e => tEl I J e
      | .inr (p2, N2, TS2) => tOl I J p2 ∧ B 1 = N2 ∧ ∀ s, s < nn (N2 0) → tFm (B 6) (1401 * s) (TS2 s))
def gN5 (N : Nat → Int32) (s x : Nat) : Nat → Int32 := fun j => if zI s 13 ≤ j ∧ j < zI s 13 + x then Int32.ofNat 500 else N j
theorem gN5_step {N : Nat → Int32} {s x : Nat} : va_up (gN5 N s x) (zI s (13 + x)) (Int32.ofNat 500) = gN5 N s (x + 1) := by
  funext j
  rw [va_ap]
  unfold gN5 zI
  by_cases hj : j = 64 + 132 * s + (13 + x)
  · rw [if_pos hj, if_pos (by omega)]
  · rw [if_neg hj]
    by_cases hc : 64 + 132 * s + 13 ≤ j ∧ j < 64 + 132 * s + 13 + x
    · rw [if_pos hc, if_pos (by omega)]
    · rw [if_neg hc, if_neg (by omega)]
theorem gN5_0 {N : Nat → Int32} {s : Nat} : gN5 N s 0 = N := by
  funext j
  unfold gN5
  rw [if_neg (by omega)]
theorem gN5_new {N : Nat → Int32} {v o : Nat} (h4 : nn (N 0) < 4) : va_up (gN5 (va_up (va_up (va_up N (zI (nn (N 0)) 0) (Int32.ofNat v)) (zI (nn (N 0)) 1) (Int32.ofNat o)) (zI (nn (N 0)) 2) (Int32.ofNat 1)) (nn (N 0)) 13) 0 (Int32.ofNat (nn (N 0) + 1)) = gNew N v o := by
  funext j
  unfold gNew gN5 zI
  simp only [va_ap]
section TP11
variable {Γ : Nat → Option Nat} {m : Nat} {h : xH} {T : Nat → Int32} {len : Nat}
theorem t_readSpecies_p141 {n s : Nat} {I : Nat → Int32} {A : Nat → Nat → Int32} {Z : Nat → Int64} (hs : s < 4) (N : Nat → Int32) (h0 : N 0 = Int32.ofNat s) : ∀ (k x fu : Nat), x + k = 13 → k < fu → fX3_readSpecies_p141 fu m (Int32.ofNat s) (Int32.ofNat x) Γ (tw m I (va_up A 1 (gN5 N s x)) Z h) n = some (.inl (), tw m I (va_up (va_up A 1 (va_up (gN5 N s 13) 0 (Int32.ofNat (s + 1)))) 6 (va_up (A 6) (1401 * s) (Int32.ofNat 0))) Z h, 0, 0) := by
  intro k
  induction k with
  | zero =>
    intro x fu hx hfu
    obtain ⟨fu, rfl⟩ : ∃ g, fu = g + 1 := ⟨fu - 1, by omega⟩
    obtain rfl : x = 13 := by omega
    have c1 : Int32.ofNat 13 ≤ Int32.ofNat 13 := by decide
    have z0 : gN5 N s 13 0 = Int32.ofNat s := by
      unfold gN5 zI
      rw [if_neg (by omega)]
      exact h0
    have sw : va_up (va_up A 6 (va_up (A 6) (1401 * s) (Int32.ofNat 0))) 1 (va_up (gN5 N s 13) 0 (Int32.ofNat (s + 1))) = va_up (va_up A 1 (va_up (gN5 N s 13) 0 (Int32.ofNat (s + 1)))) 6 (va_up (A 6) (1401 * s) (Int32.ofNat 0)) := by
      funext j
      simp only [va_ap]
      by_cases c : j = 1
      · subst c; simp
      · simp [c]
    have sx : va_up (va_up (va_up A 1 (gN5 N s 13)) 6 (va_up (A 6) (1401 * s) (Int32.ofNat 0))) 1 (va_up (gN5 N s 13) 0 (Int32.ofNat (s + 1))) = va_up (va_up A 1 (va_up (gN5 N s 13) 0 (Int32.ofNat (s + 1)))) 6 (va_up (A 6) (1401 * s) (Int32.ofNat 0)) := by
      funext j
      simp only [va_ap]
      by_cases c : j = 1
      · subst c; simp
      · simp [c]
    rw [fX3_readSpecies_p141]
    simp (maxDischargeDepth := 9) only [xbind, xlet, xpure, tw_sel, tg_0, tg_4, tg_9, tg_12, tg_13, tg_14, tg_15, tg_16, tg_17, tg_18, tg_19, tg_20, tg_21, tg_24, tr_1, tr_2, tr_3, tr_5, tr_6, tr_7, tr_8, tr_10, tr_11, tr_22, tr_23, tp_0, tp_4, tp_9, tp_12, tp_13, tp_14, tp_15, tp_16, tp_17, tp_18, tp_19, tp_20, tp_21, tp_24, va_up_self, va_up_ne, va_uu, i_ofNat, i_add, i_mul, Nat.add_zero, Nat.zero_add, reduceIte, if_true, if_false, Nat.reduceEqDiff, ne_eq, not_false_eq_true, Nat.reduceEqDiff, not_true_eq_false, c1, ts_6 (show 1401 * s < 5604 by omega), tl_1 (show 0 < 592 by omega), ts_1 (show 0 < 592 by omega), z0, sx]
  | succ k ih =>
    intro x fu hx hfu
    obtain ⟨fu, rfl⟩ : ∃ g, fu = g + 1 := ⟨fu - 1, by omega⟩
    have c1 : ¬ Int32.ofNat 13 ≤ Int32.ofNat x := by rw [i_le (by omega) (by omega)]; omega
    have e1 := ih (x + 1) fu (by omega) (by omega)
    have kx : zI s (13 + x) < 592 := zI_lt hs (by omega)
    rw [fX3_readSpecies_p141]
    simp (maxDischargeDepth := 9) only [xbind, xlet, xpure, tw_sel, tg_0, tg_4, tg_9, tg_12, tg_13, tg_14, tg_15, tg_16, tg_17, tg_18, tg_19, tg_20, tg_21, tg_24, tr_1, tr_2, tr_3, tr_5, tr_6, tr_7, tr_8, tr_10, tr_11, tr_22, tr_23, tp_0, tp_4, tp_9, tp_12, tp_13, tp_14, tp_15, tp_16, tp_17, tp_18, tp_19, tp_20, tp_21, tp_24, va_up_self, va_up_ne, va_uu, i_ofNat, i_add, i_mul, Nat.add_zero, Nat.zero_add, reduceIte, if_true, if_false, Nat.reduceEqDiff, ne_eq, not_false_eq_true, Nat.reduceEqDiff, not_true_eq_false, c1, t_at2, ts_1 kx, gN5_step, e1]
theorem t_readSpecies {q e : Nat} {N : Nat → Int32} {TS : gTs} (hr : rdN N TS) (I : Nat → Int32) (A : Nat → Nat → Int32) (Z : Nat → Int64) (n : Nat) (H : tPs T len I A e) (hq : q ≤ len) (hA : A 1 = N) (hF : ∀ s, s < nn (N 0) → tFm (A 6) (1401 * s) (TS s)) :
    ∃ J B, fX3_readSpecies m (Int32.ofNat q) Γ (tw m I A Z h) n = some (.inl (), tw m J B Z h, 0, 0) ∧ (∀ j, j ≠ 1 → j ≠ 6 → B j = A j) ∧ (match gSpec T len q e N TS with
      | .inl e => tEl I J e
      | .inr (p2, N2, TS2) => tOl I J p2 ∧ B 1 = N2 ∧ ∀ s, s < nn (N2 0) → tFm (B 6) (1401 * s) (TS2 s)) := by
  subst hA
  have d1 : ¬ Int32.ofNat 1 = Int32.ofNat 0 := by decide
  have h9 : len ≤ 900 := H.2.2.2.2.2
  have he : e ≤ len := H.2.2.2.2.1
  have a0 := hr.1.1
  have a4 := hr.1.2.1
  unfold nN at a0
  have o0 : tOk I (va_up I 14 (Int32.ofNat q)) e := ⟨by rw [va_up_ne _ _ (by decide)]; exact H.1, fun j a b => va_up_ne _ _ b⟩
  have H0 := H.ok (B := A) o0 he rfl
  unfold gSpec
  by_cases h4 : nn (A 1 0) < 4
  · rw [if_pos h4]
    have l4 : ¬ Int32.ofNat 4 ≤ A 1 0 := by rw [a0, i_le (by omega) (by omega)]; omega
    have e1 := fun c => t_must1 (Γ := Γ) (n := n) (m := m) (I := va_up I 14 (Int32.ofNat q)) (A := A) (S := Z) (h := h) (k := c)
    have e2 := t_hasFailed0 (Γ := Γ) (n := n) (m := m) (A := A) (S := Z) (h := h) H0.2.2.1
    obtain ⟨J, v, e3, o3⟩ := t_nameHere (Γ := Γ) (n := n) (m := m) (Z := Z) (h := h) H0
    have e4 := t_named (Γ := Γ) (n := n) (m := m) (I := J) (S := Z) (h := h) hr.1 v
    have q1 := gBl_le (T := T) he
    have q0 := gBl_ge (T := T) (len := len) (p := e)
    have w0 := gWE_ge (T := T) (len := len) (q := gBl T len e)
    have w1 := gWE_le (T := T) q1
    by_cases c1 : 1 ≤ gWE T len (gBl T len e) - gBl T len e ∧ gWE T len (gBl T len e) - gBl T len e ≤ 6
    · rw [if_pos c1] at o3 ⊢
      obtain ⟨o3, b3, rfl⟩ := o3
      have H1 := H0.ok (B := A) o3 q1 rfl
      cases hn : pNd (A 1) (Int32.ofNat (gNc T (gBl T len e) (gWE T len (gBl T len e) - gBl T len e) 0)) 0 (nn (A 1 0)) with
      | some k =>
        rw [hn] at e4
        rw [if_neg (by intro z; cases z)]
        have hk : k < 2147483648 := by
          have : ∀ (N : Nat → Int32) (v : Int32) (c s r : Nat), pNd N v s c = some r → r < s + c := by
            intro N v c
            induction c with
            | zero => intro s r z; cases z
            | succ c ih =>
              intro s r z
              unfold pNd at z
              split at z
              · cases z; omega
              · have := ih (s + 1) r z; omega
          have := this _ _ _ _ _ hn
          omega
        have c2 : ¬ o2i (some k) = -Int32.ofNat 1 := by
          intro z
          have z1 := congrArg Int32.toInt z
          have z3 : (o2i (some k)).toInt = (k : Int) := i_toInt hk
          have z2 : (-Int32.ofNat 1).toInt = -1 := by decide
          omega
        obtain ⟨K, e5, o5⟩ := t_must0e (Γ := Γ) (n := n) (m := m) (A := A) (S := Z) (h := h) (k := 3) H1.2.2.1 b3
        have e6 := t_hasFailed1 (Γ := Γ) (n := n) (m := m) (A := A) (S := Z) (h := h) (o5.fail (show gBl T len e ≤ 900 by omega))
        refine ⟨K, A, ?_, fun _ _ _ => rfl, (o0.er (o3.er o5)).l⟩
        simp (maxDischargeDepth := 9) only [fX3_readSpecies, fX3_readSpecies_p21, fX3_readSpecies_p53, xbind, xlet, xpure, tw_sel, tg_0, tg_4, tg_9, tg_12, tg_13, tg_14, tg_15, tg_16, tg_17, tg_18, tg_19, tg_20, tg_21, tg_24, tr_1, tr_2, tr_3, tr_5, tr_6, tr_7, tr_8, tr_10, tr_11, tr_22, tr_23, tp_0, tp_4, tp_9, tp_12, tp_13, tp_14, tp_15, tp_16, tp_17, tp_18, tp_19, tp_20, tp_21, tp_24, va_up_self, va_up_ne, va_uu, i_ofNat, i_add, i_mul, Nat.add_zero, Nat.zero_add, reduceIte, if_true, if_false, Nat.reduceEqDiff, ne_eq, not_false_eq_true, Nat.reduceEqDiff, not_true_eq_false, tl_1 (show 0 < 592 by omega), l4, e1, e2, e3, e4, c2, e5, e6, d1]
      | none =>
        rw [hn] at e4
        rw [if_pos rfl]
        have c2 : o2i none = -Int32.ofNat 1 := rfl
        have e5 := t_must1 (Γ := Γ) (n := n) (m := m) (I := J) (A := A) (S := Z) (h := h) (k := Int32.ofNat 3)
        have e6 := t_hasFailed0 (Γ := Γ) (n := n) (m := m) (A := A) (S := Z) (h := h) H1.2.2.1
        have v1 := o3.1
        obtain ⟨J2, e7, o7, b7⟩ := t_wordHere (Γ := Γ) (n := n) (m := m) (S := Z) (h := h) H1
        rw [gBl_idem] at e7 o7 b7
        have ew : gBl T len e + (gWE T len (gBl T len e) - gBl T len e) = gWE T len (gBl T len e) := by omega
        have o8 : tOk J2 (va_up J2 13 (Int32.ofNat (gWE T len (gBl T len e)))) (gWE T len (gBl T len e)) := ⟨va_up_self _ _ _, fun j a b => va_up_ne _ _ a⟩
        have H2 := (H1.ok (B := A) o7 q1 rfl).ok (B := A) o8 w1 rfl
        obtain ⟨K, e9, o9⟩ := t_number (Γ := Γ) (n := n) (m := m) (S := Z) (h := h) (lo := 1) (hi := 12) (by decide) (by decide) H2
        have oo := o0.trans (o3.trans (o7.trans o8))
        cases hg : gNum T len 1 12 (gWE T len (gBl T len e)) with
        | inl e' =>
          rw [hg] at e9 o9
          have e10 := t_hasFailed1 (Γ := Γ) (n := n) (m := m) (A := A) (S := Z) (h := h) (o9.fail (Nat.le_trans (gNum_er w1 hg) h9))
          refine ⟨K, A, ?_, fun _ _ _ => rfl, (oo.er o9).l⟩
          simp (maxDischargeDepth := 9) only [fX3_readSpecies, fX3_readSpecies_p21, fX3_readSpecies_p53, xbind, xlet, xpure, tw_sel, tg_0, tg_4, tg_9, tg_12, tg_13, tg_14, tg_15, tg_16, tg_17, tg_18, tg_19, tg_20, tg_21, tg_24, tr_1, tr_2, tr_3, tr_5, tr_6, tr_7, tr_8, tr_10, tr_11, tr_22, tr_23, tp_0, tp_4, tp_9, tp_12, tp_13, tp_14, tp_15, tp_16, tp_17, tp_18, tp_19, tp_20, tp_21, tp_24, va_up_self, va_up_ne, va_uu, i_ofNat, i_add, i_mul, Nat.add_zero, Nat.zero_add, reduceIte, if_true, if_false, Nat.reduceEqDiff, ne_eq, not_false_eq_true, Nat.reduceEqDiff, not_true_eq_false, tl_1 (show 0 < 592 by omega), l4, e1, e2, e3, e4, c2, e5, e6, v1, e7, ew, e9, e10, d1]
        | inr r =>
          obtain ⟨o, p2⟩ := r
          rw [hg] at e9 o9
          have ga := gNum_ok w1 hg
          have H3 := H2.ok (B := A) o9 ga.2.1 rfl
          have e10 := t_hasFailed0 (Γ := Γ) (n := n) (m := m) (A := A) (S := Z) (h := h) H3.2.2.1
          have k0 : zI (nn (A 1 0)) 0 < 592 := zI_lt h4 (by omega)
          have k1 : zI (nn (A 1 0)) 1 < 592 := zI_lt h4 (by omega)
          have k2 : zI (nn (A 1 0)) 2 < 592 := zI_lt h4 (by omega)
          have e11 := t_readSpecies_p141 (Γ := Γ) (n := n) (m := m) (I := K) (A := A) (Z := Z) (h := h) h4 (va_up (va_up (va_up (A 1) (zI (nn (A 1 0)) 0) (Int32.ofNat (gNc T (gBl T len e) (gWE T len (gBl T len e) - gBl T len e) 0))) (zI (nn (A 1 0)) 1) (Int32.ofNat o)) (zI (nn (A 1 0)) 2) (Int32.ofNat 1)) (by rw [va_up_ne _ _ (by unfold zI; omega), va_up_ne _ _ (by unfold zI; omega), va_up_ne _ _ (by unfold zI; omega)]; exact a0) 13 0 xFU (by omega) (by unfold xFU; omega)
          rw [gN5_0, gN5_new h4] at e11
          have hn0 : nn (gNew (A 1) (gNc T (gBl T len e) (gWE T len (gBl T len e) - gBl T len e) 0) o 0) = nn (A 1 0) + 1 := by
            have : gNew (A 1) (gNc T (gBl T len e) (gWE T len (gBl T len e) - gBl T len e) 0) o 0 = Int32.ofNat (nn (A 1 0) + 1) := if_pos rfl
            rw [this, nn_of (by omega)]
          have a1 : A 1 0 = Int32.ofNat (nn (A 1 0)) := a0
          refine ⟨K, va_up (va_up A 1 (gNew (A 1) (gNc T (gBl T len e) (gWE T len (gBl T len e) - gBl T len e) 0) o)) 6 (va_up (A 6) (1401 * nn (A 1 0)) (Int32.ofNat 0)), ?_, fun j a b => ?_, (oo.trans o9).l, ?_, fun s hs => ?_⟩
          · generalize nn (A 1 0) = c at *
            have l5 : ¬ Int32.ofNat 4 ≤ Int32.ofNat c := by rw [← a1]; exact l4
            simp (maxDischargeDepth := 9) only [fX3_readSpecies, fX3_readSpecies_p21, fX3_readSpecies_p53, xbind, xlet, xpure, tw_sel, tg_0, tg_4, tg_9, tg_12, tg_13, tg_14, tg_15, tg_16, tg_17, tg_18, tg_19, tg_20, tg_21, tg_24, tr_1, tr_2, tr_3, tr_5, tr_6, tr_7, tr_8, tr_10, tr_11, tr_22, tr_23, tp_0, tp_4, tp_9, tp_12, tp_13, tp_14, tp_15, tp_16, tp_17, tp_18, tp_19, tp_20, tp_21, tp_24, va_up_self, va_up_ne, va_uu, i_ofNat, i_add, i_mul, Nat.add_zero, Nat.zero_add, reduceIte, if_true, if_false, Nat.reduceEqDiff, ne_eq, not_false_eq_true, Nat.reduceEqDiff, not_true_eq_false, tl_1 (show 0 < 592 by omega), l5, e1, e2, e3, e4, c2, e5, e6, v1, e7, ew, e9, e10, a1, t_at2, ts_1 k0, ts_1 k1, ts_1 k2, e11]
          · rw [va_up_ne _ _ b, va_up_ne _ _ a]
          · rw [va_up_ne _ _ (by decide), va_up_self]
          · rw [hn0] at hs
            rw [va_up_self]
            by_cases c : s = nn (A 1 0)
            · subst c
              rw [va_up_self]
              exact ⟨va_up_self _ _ _, trivial⟩
            · rw [va_up_ne _ _ c]
              have hf := hF s (by omega)
              have hw := (hr.2.2.2 s (by omega)).1.2
              exact ⟨by rw [va_up_ne _ _ (by omega)]; exact hf.1, pEnc_congr _ _ hf.2 (fun j a b => va_up_ne _ _ (by omega))⟩
    · rw [if_neg c1] at o3 ⊢
      have g3 := o3.fail (show gBl T len e ≤ 900 by omega)
      have e5 := fun b => t_mustF (Γ := Γ) (n := n) (m := m) (A := A) (S := Z) (h := h) (b := b) (k := Int32.ofNat 3) g3
      have e6 := t_hasFailed1 (Γ := Γ) (n := n) (m := m) (A := A) (S := Z) (h := h) g3
      refine ⟨J, A, ?_, fun _ _ _ => rfl, (o0.er o3).l⟩
      by_cases c2 : o2i (pNd (A 1) v 0 (nn (A 1 0))) = -Int32.ofNat 1
      · simp (maxDischargeDepth := 9) only [fX3_readSpecies, fX3_readSpecies_p21, fX3_readSpecies_p53, xbind, xlet, xpure, tw_sel, tg_0, tg_4, tg_9, tg_12, tg_13, tg_14, tg_15, tg_16, tg_17, tg_18, tg_19, tg_20, tg_21, tg_24, tr_1, tr_2, tr_3, tr_5, tr_6, tr_7, tr_8, tr_10, tr_11, tr_22, tr_23, tp_0, tp_4, tp_9, tp_12, tp_13, tp_14, tp_15, tp_16, tp_17, tp_18, tp_19, tp_20, tp_21, tp_24, va_up_self, va_up_ne, va_uu, i_ofNat, i_add, i_mul, Nat.add_zero, Nat.zero_add, reduceIte, if_true, if_false, Nat.reduceEqDiff, ne_eq, not_false_eq_true, Nat.reduceEqDiff, not_true_eq_false, tl_1 (show 0 < 592 by omega), l4, e1, e2, e3, e4, eq_true c2, e5, e6, d1]
      · simp (maxDischargeDepth := 9) only [fX3_readSpecies, fX3_readSpecies_p21, fX3_readSpecies_p53, xbind, xlet, xpure, tw_sel, tg_0, tg_4, tg_9, tg_12, tg_13, tg_14, tg_15, tg_16, tg_17, tg_18, tg_19, tg_20, tg_21, tg_24, tr_1, tr_2, tr_3, tr_5, tr_6, tr_7, tr_8, tr_10, tr_11, tr_22, tr_23, tp_0, tp_4, tp_9, tp_12, tp_13, tp_14, tp_15, tp_16, tp_17, tp_18, tp_19, tp_20, tp_21, tp_24, va_up_self, va_up_ne, va_uu, i_ofNat, i_add, i_mul, Nat.add_zero, Nat.zero_add, reduceIte, if_true, if_false, Nat.reduceEqDiff, ne_eq, not_false_eq_true, Nat.reduceEqDiff, not_true_eq_false, tl_1 (show 0 < 592 by omega), l4, e1, e2, e3, e4, c2, e5, e6, d1]
  · rw [if_neg h4]
    have l4 : Int32.ofNat 4 ≤ A 1 0 := by rw [a0, i_le (by omega) (by omega)]; omega
    obtain ⟨K, e1, o1⟩ := t_must0e (Γ := Γ) (n := n) (m := m) (A := A) (S := Z) (h := h) (J := va_up I 14 (Int32.ofNat q)) (q := q) (k := 5) H0.2.2.1 (va_up_self _ _ _)
    have e2 := t_hasFailed1 (Γ := Γ) (n := n) (m := m) (A := A) (S := Z) (h := h) (o1.fail (show q ≤ 900 by omega))
    refine ⟨K, A, ?_, fun _ _ _ => rfl, (o0.er o1).l⟩
    simp (maxDischargeDepth := 9) only [fX3_readSpecies, fX3_readSpecies_p21, xbind, xlet, xpure, tw_sel, tg_0, tg_4, tg_9, tg_12, tg_13, tg_14, tg_15, tg_16, tg_17, tg_18, tg_19, tg_20, tg_21, tg_24, tr_1, tr_2, tr_3, tr_5, tr_6, tr_7, tr_8, tr_10, tr_11, tr_22, tr_23, tp_0, tp_4, tp_9, tp_12, tp_13, tp_14, tp_15, tp_16, tp_17, tp_18, tp_19, tp_20, tp_21, tp_24, va_up_self, va_up_ne, va_uu, i_ofNat, i_add, i_mul, Nat.add_zero, Nat.zero_add, reduceIte, if_true, if_false, Nat.reduceEqDiff, ne_eq, not_false_eq_true, Nat.reduceEqDiff, not_true_eq_false, tl_1 (show 0 < 592 by omega), l4, e1, e2, d1]
/-- a formula is read for species s -/
theorem t_readAllow {n p s : Nat} {N : Nat → Int32} {TS : gTs} (hs : tStr Γ m h) (hr : rdN N TS) (hsn : s < nn (N 0)) (I : Nat → Int32) (A : Nat → Nat → Int32) (Z : Nat → Int64) (H : tPs T len I A p) (hA : A 1 = N) (hF : ∀ s, s < nn (N 0) → tFm (A 6) (1401 * s) (TS s)) :
    ∃ J B, fX3_readAllow m (Int32.ofNat s) Γ (tw m I A Z h) n = some (.inl (), tw m J B Z h, 0, 0) ∧ (∀ j, j ≠ 1 → j ≠ 6 → B j = A j) ∧ (match gAll T len s p N TS with
      | .inl e => tEl I J e
      | .inr (p2, N2, TS2) => tOl I J p2 ∧ B 1 = N2 ∧ ∀ s, s < nn (N2 0) → tFm (B 6) (1401 * s) (TS2 s)) := by
  subst hA
  have a4 := hr.1.2.1
  have hp : p ≤ len := H.2.2.2.2.1
  have ol0 : tOl I (va_up (va_up I 20 (Int32.ofNat (1401 * s))) 21 (Int32.ofNat 0)) p := ⟨by rw [va_up_ne _ _ (by decide), va_up_ne _ _ (by decide)]; exact H.1, fun j a b c d => by rw [va_up_ne _ _ d, va_up_ne _ _ c]⟩
  have H0 : tPs T len (va_up (va_up I 20 (Int32.ofNat (1401 * s))) 21 (Int32.ofNat 0)) (va_up A 6 (va_up (A 6) (1401 * s) (Int32.ofNat 0))) p := H.ol ol0 hp a68
  obtain ⟨J, R, e1, r1, o1⟩ := t_readSum (T := T) (len := len) (f := 1401 * s) hs (by omega) 40 0 p (by omega) (by omega) hp _ _ Z n [] H0 (by rw [va_up_ne _ _ (by decide)]; exact va_up_self _ _ _) (va_up_self _ _ _) (by rw [va_up_self]; exact ⟨va_up_self _ _ _, trivial⟩) (by show 2 * 0 ≤ _; omega)
  rw [va_uu] at e1
  rw [va_up_self] at r1
  refine ⟨J, va_up A 6 R, ?_, fun j a b => va_up_ne _ _ b, ?_⟩
  · simp (maxDischargeDepth := 9) only [fX3_readAllow, xbind, xlet, xpure, tw_sel, tg_0, tg_4, tg_9, tg_12, tg_13, tg_14, tg_15, tg_16, tg_17, tg_18, tg_19, tg_20, tg_21, tg_24, tr_1, tr_2, tr_3, tr_5, tr_6, tr_7, tr_8, tr_10, tr_11, tr_22, tr_23, tp_0, tp_4, tp_9, tp_12, tp_13, tp_14, tp_15, tp_16, tp_17, tp_18, tp_19, tp_20, tp_21, tp_24, va_up_self, va_up_ne, va_uu, i_ofNat, i_add, i_mul, Nat.add_zero, Nat.zero_add, reduceIte, if_true, if_false, Nat.reduceEqDiff, ne_eq, not_false_eq_true, Nat.reduceEqDiff, not_true_eq_false, ts_6 (show 1401 * s < 5604 by omega), e1]
  · unfold gAll
    revert o1
    cases hg : gSumD T len 40 0 p with
    | inl e => exact fun o1 => ol0.er o1.l
    | inr r =>
      obtain ⟨p2, ts⟩ := r
      rintro ⟨o1, F1⟩
      refine ⟨ol0.trans o1.l, va_up_ne _ _ (by decide), fun t ht => ?_⟩
      rw [va_up_self]
      by_cases c : t = s
      · subst c
        rw [va_up_self]
        exact F1
      · rw [va_up_ne _ _ c]
        have hf := hF t ht
        have hw := (hr.2.2.2 t ht).1.2
        have rr : ∀ j, (j < 1401 * s ∨ 1401 * s + 1400 < j) → R j = A 6 j := fun j hj => (r1 j hj).trans (va_up_ne _ _ (by omega))
        exact ⟨by rw [rr _ (by omega)]; exact hf.1, pEnc_congr _ _ hf.2 (fun j a b => rr j (by omega))⟩
end TP11
