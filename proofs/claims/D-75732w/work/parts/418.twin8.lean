/-! part 418: the twin: closes -/
def pYear (N : Nat → Int32) : Nat → Int32 := va_up (va_up N 2 (N 2 + Int32.ofNat 1)) 1 (va_up N 2 (N 2 + Int32.ofNat 1) 1 + Int32.ofNat 1)
def pCl1 (N : Nat → Int32) : Nat → Int32 := (pAll (nn (N 3)) N (Int32.ofNat 0)).1
def pCl2 (N : Nat → Int32) : Nat → Int32 := pAgesF 0 (nn (N 0)) (pCl1 N)
def pClose (TS : Nat → List (Nat × Int32)) (N : Nat → Int32) : Nat → Int32 := pOpenF TS 0 (nn (N 0)) (pYear (pCl2 N))
def pCloseL (L N : Nat → Int32) : Nat → Int32 := pLedW L (pCl2 N) (nn (N 2)) (7 * nn (N 0))
def pCloseR (N : Nat → Int32) : Int32 := (pAll (nn (N 3)) N (Int32.ofNat 0)).2
theorem okN.year {N : Nat → Int32} (ok : okN N) (hy : nn (N 1) < 9999) : okN (pYear N) := by
  obtain ⟨a1, a2, a3, a4, a5, a6, a7, a8, a9, a10⟩ := ok
  unfold nN at a3 a5
  have e2 : pYear N 2 = Int32.ofNat (nn (N 2) + 1) := by
    unfold pYear
    rw [va_up_ne _ _ (by omega), va_up_self, ← i_add, ← a5]
  have e1 : pYear N 1 = Int32.ofNat (nn (N 1) + 1) := by
    unfold pYear
    rw [va_up_self, va_up_ne _ _ (by omega), ← i_add, ← a3]
  have eo : ∀ j, j ≠ 1 → j ≠ 2 → pYear N j = N j := fun j h1 h2 => by
    unfold pYear
    rw [va_up_ne _ _ h1, va_up_ne _ _ h2]
  have n1 : nn (pYear N 1) = nn (N 1) + 1 := by rw [e1, nn_of (by omega)]
  have n2 : nn (pYear N 2) = nn (N 2) + 1 := by rw [e2, nn_of (by omega)]
  have ez : ∀ s a, pYear N (zI s a) = N (zI s a) := fun s a => eo _ (by unfold zI; omega) (by unfold zI; omega)
  refine ⟨?_, ?_, ?_, ?_, ?_, ?_, ?_, ?_, fun s hs => ?_, fun j hj => ?_⟩
  · rw [eo 0 (by omega) (by omega)]; exact a1
  · rw [eo 0 (by omega) (by omega)]; exact a2
  · rw [e1]; exact nN_of _ (by omega)
  · rw [n1]; omega
  · rw [e2]; exact nN_of _ (by omega)
  · rw [n1, n2]; omega
  · rw [eo 3 (by omega) (by omega)]; exact a7
  · rw [eo 3 (by omega) (by omega)]; exact a8
  · rw [eo 0 (by omega) (by omega)] at hs
    unfold okS
    rw [ez, ez]
    exact a9 s hs
  · rw [eo 3 (by omega) (by omega)] at hj
    unfold okP
    rw [eo (4 + 5 * j + 2) (by omega) (by omega), eo (4 + 5 * j + 3) (by omega) (by omega), eo 0 (by omega) (by omega), ez]
    exact a10 j hj
theorem pAll_ne : ∀ (k : Nat) (N : Nat → Int32) (c : Int32) (j : Nat), okN N → nn (N 3) = k → j < 3 ∨ 64 ≤ j → (∀ s a, s < 4 → 3 ≤ a → a < 52 → j ≠ zI s a) → (pAll k N c).1 j = N j := by
  intro k
  induction k with
  | zero => intro N c j ok h1 h2 h3; rfl
  | succ k ih =>
    intro N c j ok h1 h2 h3
    unfold pAll
    split
    · have o1 := ok.carry (by omega)
      have hp := ok.2.2.2.2.2.2.2.2.2 0 (by omega)
      unfold okP at hp
      simp only [Nat.mul_zero, Nat.add_zero, Nat.reduceAdd] at hp
      have hq := (ok.2.2.2.2.2.2.2.2.1 _ hp.2.1).2.1
      have h4 := ok.2.1
      have h12 := ok.2.2.2.2.2.2.2.1
      have h3' : nn (pCarry N 3) = k + 1 := by
        rw [pCarry_ne (by omega) (fun k h1 h2 => by unfold zI; omega)]
        exact h1
      have o2 := o1.rem (k := 0) (cnt := k + 1) h3' (by omega)
      have hr : ∀ i, i < 3 ∨ 64 ≤ i → pRem (pCarry N) 0 (k + 1) i = pCarry N i := fun i hi => by
        unfold pRem
        rw [if_neg (by omega), if_neg (by omega)]
      rw [ih _ _ j o2 (by unfold pRem; rw [if_pos rfl, nn_of (by omega)]; omega) h2 h3, hr j h2]
      exact pCarry_ne (by omega) (fun k q1 q2 => h3 _ _ (by omega) q1 q2)
    · rfl
theorem pCl1_hd {N : Nat → Int32} (ok : okN N) {j : Nat} (hj : j < 3) : pCl1 N j = N j := pAll_ne _ _ _ _ ok rfl (Or.inl hj) (fun s a h1 h2 h3 => by unfold zI; omega)
theorem pCl1_z {N : Nat → Int32} (ok : okN N) {s a : Nat} (hs : s < 4) (ha : a < 3 ∨ 52 ≤ a) (ha' : a < 132) : pCl1 N (zI s a) = N (zI s a) := pAll_ne _ _ _ _ ok rfl (Or.inr (by unfold zI; omega)) (fun t b h1 h2 h3 => by unfold zI; omega)
theorem pCl2_ok {N : Nat → Int32} (ok : okN N) : okN (pCl2 N) ∧ pCl2 N 0 = N 0 := by
  have o1 : okN (pCl1 N) := okN.all _ _ _ ok rfl
  have e0 := pCl1_hd ok (j := 0) (by omega)
  have := okN.agesF (nn (N 0)) 0 (pCl1 N) o1 (by rw [e0]; omega)
  exact ⟨this.1, this.2.trans e0⟩
theorem pAgesF_hd : ∀ (k s : Nat) (N : Nat → Int32) (j : Nat), okN N → s + k = nn (N 0) → j < 64 → pAgesF s k N j = N j := by
  intro k
  induction k with
  | zero => intro s N j ok h1 h2; rfl
  | succ k ih =>
    intro s N j ok h1 h2
    have ho := (ok.2.2.2.2.2.2.2.2.1 s (by omega)).2.1
    have h0 : ∀ i, i < 64 → pAges N s (nn (N (zI s 1))) i = N i := fun i hi => pAges_ne ho (fun k h1 h2 => by unfold zI; omega)
    unfold pAgesF
    rw [ih (s + 1) _ j (ok.ages ho) (by rw [h0 0 (by omega)]; omega) h2, h0 j h2]
theorem pCl2_hd {N : Nat → Int32} (ok : okN N) {j : Nat} (hj : j < 3) : pCl2 N j = N j := by
  have o1 : okN (pCl1 N) := okN.all _ _ _ ok rfl
  have e0 := pCl1_hd ok (j := 0) (by omega)
  unfold pCl2
  rw [pAgesF_hd _ _ _ _ o1 (by rw [e0]; omega) (by omega), pCl1_hd ok hj]
section TW9
variable {Γ : Nat → Option Nat} {m n : Nat} {h : xH}
theorem t_closes_p108 (TS : Nat → List (Nat × Int32)) (r : Int32) : ∀ (k s fu : Nat) (I : Nat → Int32) (A : Nat → Nat → Int32) (S : Nat → Int64), okN (A 1) → s + k = nn (A 1 0) → (∀ t, t < nn (A 1 0) → okF (A 5) t (TS t)) → k < fu →
    ∃ S' v9, fX3_closes_p108 fu m r (Int32.ofNat s) Γ (tw m I A S h) n = some (.inl r, tw m (va_up I 9 v9) (va_up A 1 (pOpenF TS s k (A 1))) S' h, 0, 0) := by
  intro k
  induction k with
  | zero =>
    intro s fu I A S ok hk hF hf
    obtain ⟨fu, rfl⟩ : ∃ g, fu = g + 1 := ⟨fu - 1, by omega⟩
    refine ⟨S, I 9, ?_⟩
    have h4 := ok.2.1
    have h0 : A 1 0 = Int32.ofNat s := by have := ok.1; unfold nN at this; rw [this]; congr 1; omega
    have c1 : Int32.ofNat s ≤ Int32.ofNat s := by rw [i_le (by omega) (by omega)]; omega
    rw [fX3_closes_p108]
    simp (maxDischargeDepth := 9) only [xbind, xlet, xpure, tw_sel, tg_0, tg_4, tg_9, tg_12, tg_13, tg_14, tg_15, tg_16, tg_17, tg_18, tg_19, tg_20, tg_21, tg_24, tr_1, tr_2, tr_3, tr_5, tr_6, tr_7, tr_8, tr_10, tr_11, tr_22, tr_23, tp_0, tp_4, tp_9, tp_12, tp_13, tp_14, tp_15, tp_16, tp_17, tp_18, tp_19, tp_20, tp_21, tp_24, va_up_self, va_up_ne, va_uu, i_ofNat, i_add, i_mul, Nat.add_zero, Nat.zero_add, reduceIte, if_true, if_false, Nat.reduceEqDiff, ne_eq, not_false_eq_true, Nat.reduceEqDiff, not_true_eq_false, tl_1 (show 0 < 592 by omega), h0, c1, va_id, pOpenF]
  | succ k ih =>
    intro s fu I A S ok hk hF hf
    obtain ⟨fu, rfl⟩ : ∃ g, fu = g + 1 := ⟨fu - 1, by omega⟩
    have h4 := ok.2.1
    have h0 : A 1 0 = Int32.ofNat (s + (k + 1)) := by have := ok.1; unfold nN at this; rw [this]; congr 1; omega
    have c1 : ¬ Int32.ofNat (s + (k + 1)) ≤ Int32.ofNat s := by rw [i_le (by omega) (by omega)]; omega
    obtain ⟨S1, v1, e1⟩ := t_opens (Γ := Γ) (n := n) (m := m) (I := I) (A := A) (S := S) (h := h) (s := s) (by omega) (ok.2.2.2.2.2.2.2.2.1 s (by omega)) (hF s (by omega))
    have hh : pOpen (A 1) s (TS s) 0 = A 1 0 := pOpen_ne (fun k h1 h2 => by unfold zI; omega)
    obtain ⟨S2, v2, e2⟩ := ih (s + 1) fu (va_up I 9 v1) (va_up A 1 (pOpen (A 1) s (TS s))) S1 (by rw [va_up_self]; exact ok.opn) (by rw [va_up_self, hh]; omega) (by
      rw [va_up_self, hh, va_up_ne _ _ (by omega)]
      exact hF) (by omega)
    refine ⟨S2, v2, ?_⟩
    simp (maxDischargeDepth := 9) only [xbind, xlet, xpure, tw_sel, tg_0, tg_4, tg_9, tg_12, tg_13, tg_14, tg_15, tg_16, tg_17, tg_18, tg_19, tg_20, tg_21, tg_24, tr_1, tr_2, tr_3, tr_5, tr_6, tr_7, tr_8, tr_10, tr_11, tr_22, tr_23, tp_0, tp_4, tp_9, tp_12, tp_13, tp_14, tp_15, tp_16, tp_17, tp_18, tp_19, tp_20, tp_21, tp_24, va_up_self, va_up_ne, va_uu, i_ofNat, i_add, i_mul, Nat.add_zero, Nat.zero_add, reduceIte, if_true, if_false, Nat.reduceEqDiff, ne_eq, not_false_eq_true, Nat.reduceEqDiff, not_true_eq_false] at e2
    rw [fX3_closes_p108]
    simp (maxDischargeDepth := 9) only [xbind, xlet, xpure, tw_sel, tg_0, tg_4, tg_9, tg_12, tg_13, tg_14, tg_15, tg_16, tg_17, tg_18, tg_19, tg_20, tg_21, tg_24, tr_1, tr_2, tr_3, tr_5, tr_6, tr_7, tr_8, tr_10, tr_11, tr_22, tr_23, tp_0, tp_4, tp_9, tp_12, tp_13, tp_14, tp_15, tp_16, tp_17, tp_18, tp_19, tp_20, tp_21, tp_24, va_up_self, va_up_ne, va_uu, i_ofNat, i_add, i_mul, Nat.add_zero, Nat.zero_add, reduceIte, if_true, if_false, Nat.reduceEqDiff, ne_eq, not_false_eq_true, Nat.reduceEqDiff, not_true_eq_false, tl_1 (show 0 < 592 by omega), h0, c1, e1, e2, pOpenF]
theorem t_closes_p42 {I : Nat → Int32} {S : Nat → Int64} {A : Nat → Nat → Int32} {s c : Nat} (hs : s < 4) (hok : okS (A 1) s) (hc : A 1 2 = Int32.ofNat c) (hc' : c ≤ 9999) (k30 : Nat → Int32 → Int32 → xM Int32) (r : Int32) (L : Nat → Int32) : ∀ (k w fu : Nat), w + k = 7 → k < fu →
    fX3_closes_p42 k30 fu m r (Int32.ofNat s) (Int32.ofNat w) Γ (tw m I (va_up A 4 (pLedW L (A 1) c (7 * s + w))) S h) n = k30 m r (Int32.ofNat (s + 1)) Γ (tw m I (va_up A 4 (pLedW L (A 1) c (7 * (s + 1)))) S h) n := by
  intro k
  induction k with
  | zero =>
    intro w fu hk hf
    obtain ⟨fu, rfl⟩ : ∃ g, fu = g + 1 := ⟨fu - 1, by omega⟩
    have hw : w = 7 := by omega
    subst hw
    have c1 : Int32.ofNat 7 ≤ Int32.ofNat 7 := by decide
    rw [fX3_closes_p42]
    simp (maxDischargeDepth := 9) only [xbind, xlet, xpure, tw_sel, tg_0, tg_4, tg_9, tg_12, tg_13, tg_14, tg_15, tg_16, tg_17, tg_18, tg_19, tg_20, tg_21, tg_24, tr_1, tr_2, tr_3, tr_5, tr_6, tr_7, tr_8, tr_10, tr_11, tr_22, tr_23, tp_0, tp_4, tp_9, tp_12, tp_13, tp_14, tp_15, tp_16, tp_17, tp_18, tp_19, tp_20, tp_21, tp_24, va_up_self, va_up_ne, va_uu, i_ofNat, i_add, i_mul, Nat.add_zero, Nat.zero_add, reduceIte, if_true, if_false, Nat.reduceEqDiff, ne_eq, not_false_eq_true, Nat.reduceEqDiff, not_true_eq_false, c1, Nat.mul_add, Nat.mul_one]
  | succ k ih =>
    intro w fu hk hf
    obtain ⟨fu, rfl⟩ : ∃ g, fu = g + 1 := ⟨fu - 1, by omega⟩
    have c1 : ¬ Int32.ofNat 7 ≤ Int32.ofNat w := by rw [i_le (by omega) (by omega)]; omega
    have e1 := t_part (Γ := Γ) (n := n) (m := m) (I := I) (A := va_up A 4 (pLedW L (A 1) c (7 * s + w))) (S := S) (h := h) (w := w) hs (by rw [va_up_ne _ _ (by omega)]; exact hok) (by omega)
    have e2 := ih (w + 1) fu (by omega) (by omega)
    have hst := pLedW_step (L := L) (N := A 1) (c := c) (s := s) (w := w) (by omega)
    rw [fX3_closes_p42]
    simp (maxDischargeDepth := 9) only [xbind, xlet, xpure, tw_sel, tg_0, tg_4, tg_9, tg_12, tg_13, tg_14, tg_15, tg_16, tg_17, tg_18, tg_19, tg_20, tg_21, tg_24, tr_1, tr_2, tr_3, tr_5, tr_6, tr_7, tr_8, tr_10, tr_11, tr_22, tr_23, tp_0, tp_4, tp_9, tp_12, tp_13, tp_14, tp_15, tp_16, tp_17, tp_18, tp_19, tp_20, tp_21, tp_24, va_up_self, va_up_ne, va_uu, i_ofNat, i_add, i_mul, Nat.add_zero, Nat.zero_add, reduceIte, if_true, if_false, Nat.reduceEqDiff, ne_eq, not_false_eq_true, Nat.reduceEqDiff, not_true_eq_false] at e1
    simp (maxDischargeDepth := 9) only [xbind, xlet, xpure, tw_sel, tg_0, tg_4, tg_9, tg_12, tg_13, tg_14, tg_15, tg_16, tg_17, tg_18, tg_19, tg_20, tg_21, tg_24, tr_1, tr_2, tr_3, tr_5, tr_6, tr_7, tr_8, tr_10, tr_11, tr_22, tr_23, tp_0, tp_4, tp_9, tp_12, tp_13, tp_14, tp_15, tp_16, tp_17, tp_18, tp_19, tp_20, tp_21, tp_24, va_up_self, va_up_ne, va_uu, i_ofNat, i_add, i_mul, Nat.add_zero, Nat.zero_add, reduceIte, if_true, if_false, Nat.reduceEqDiff, ne_eq, not_false_eq_true, Nat.reduceEqDiff, not_true_eq_false, c1, tl_1 (show 2 < 592 by omega), hc, e1, ts_4 (show (c * 4 + s) * 7 + w < 280000 by omega), hst, e2]
    cases k30 m r (Int32.ofNat (s + 1)) Γ (tw m I (va_up A 4 (pLedW L (A 1) c (7 * (s + 1)))) S h) n <;> rfl
theorem t_closes_p30 (TS : Nat → List (Nat × Int32)) {I : Nat → Int32} {S : Nat → Int64} {A : Nat → Nat → Int32} (ok : okN (A 1)) (hy : nn (A 1 1) < 9999) (hF : ∀ t, t < nn (A 1 0) → okF (A 5) t (TS t)) (r : Int32) (L : Nat → Int32) : ∀ (k s fu : Nat), s + k = nn (A 1 0) → k < fu →
    ∃ S' v9, fX3_closes_p30 fu m r (Int32.ofNat s) Γ (tw m I (va_up A 4 (pLedW L (A 1) (nn (A 1 2)) (7 * s))) S h) n = some (.inl r, tw m (va_up I 9 v9) (va_up (va_up A 4 (pLedW L (A 1) (nn (A 1 2)) (7 * nn (A 1 0)))) 1 (pOpenF TS 0 (nn (A 1 0)) (pYear (A 1)))) S' h, 0, 0) := by
  intro k
  induction k with
  | zero =>
    intro s fu hk hf
    obtain ⟨fu, rfl⟩ : ∃ g, fu = g + 1 := ⟨fu - 1, by omega⟩
    have h4 := ok.2.1
    have hs : s = nn (A 1 0) := by omega
    have h0 : A 1 0 = Int32.ofNat s := by have := ok.1; unfold nN at this; rw [this]; congr 1; omega
    have c1 : Int32.ofNat s ≤ Int32.ofNat s := by rw [i_le (by omega) (by omega)]; omega
    have y0 : pYear (A 1) 0 = A 1 0 := by
      unfold pYear
      rw [va_up_ne _ _ (by omega), va_up_ne _ _ (by omega)]
    obtain ⟨S', v9, e⟩ := t_closes_p108 (Γ := Γ) (n := n) (m := m) (h := h) TS r (nn (A 1 0)) 0 xFU I (va_up (va_up A 4 (pLedW L (A 1) (nn (A 1 2)) (7 * s))) 1 (pYear (A 1))) S (by rw [va_up_self]; exact ok.year hy) (by rw [va_up_self, y0]; omega) (by
      rw [va_up_self, y0, va_up_ne _ _ (by omega), va_up_ne _ _ (by omega)]
      exact hF) (by unfold xFU; omega)
    refine ⟨S', v9, ?_⟩
    simp (maxDischargeDepth := 9) only [xbind, xlet, xpure, tw_sel, tg_0, tg_4, tg_9, tg_12, tg_13, tg_14, tg_15, tg_16, tg_17, tg_18, tg_19, tg_20, tg_21, tg_24, tr_1, tr_2, tr_3, tr_5, tr_6, tr_7, tr_8, tr_10, tr_11, tr_22, tr_23, tp_0, tp_4, tp_9, tp_12, tp_13, tp_14, tp_15, tp_16, tp_17, tp_18, tp_19, tp_20, tp_21, tp_24, va_up_self, va_up_ne, va_uu, i_ofNat, i_add, i_mul, Nat.add_zero, Nat.zero_add, reduceIte, if_true, if_false, Nat.reduceEqDiff, ne_eq, not_false_eq_true, Nat.reduceEqDiff, not_true_eq_false] at e
    rw [← hs] at e ⊢
    have hyu : va_up (va_up (A 1) 2 (A 1 2 + Int32.ofNat 1)) 1 (A 1 1 + Int32.ofNat 1) = pYear (A 1) := by
      unfold pYear
      rw [va_up_ne (A 1) _ (show 1 ≠ 2 by omega)]
    rw [fX3_closes_p30]
    simp (maxDischargeDepth := 9) only [xbind, xlet, xpure, tw_sel, tg_0, tg_4, tg_9, tg_12, tg_13, tg_14, tg_15, tg_16, tg_17, tg_18, tg_19, tg_20, tg_21, tg_24, tr_1, tr_2, tr_3, tr_5, tr_6, tr_7, tr_8, tr_10, tr_11, tr_22, tr_23, tp_0, tp_4, tp_9, tp_12, tp_13, tp_14, tp_15, tp_16, tp_17, tp_18, tp_19, tp_20, tp_21, tp_24, va_up_self, va_up_ne, va_uu, i_ofNat, i_add, i_mul, Nat.add_zero, Nat.zero_add, reduceIte, if_true, if_false, Nat.reduceEqDiff, ne_eq, not_false_eq_true, Nat.reduceEqDiff, not_true_eq_false, tl_1 (show 0 < 592 by omega), h0, c1, tl_1 (show 2 < 592 by omega), ts_1 (show 2 < 592 by omega), tl_1 (show 1 < 592 by omega), ts_1 (show 1 < 592 by omega), hyu, e]
  | succ k ih =>
    intro s fu hk hf
    obtain ⟨fu, rfl⟩ : ∃ g, fu = g + 1 := ⟨fu - 1, by omega⟩
    have h4 := ok.2.1
    have h0 : A 1 0 = Int32.ofNat (s + (k + 1)) := by have := ok.1; unfold nN at this; rw [this]; congr 1; omega
    have c1 : ¬ A 1 0 ≤ Int32.ofNat s := by rw [h0, i_le (by omega) (by omega)]; omega
    obtain ⟨S', v9, e⟩ := ih (s + 1) fu (by omega) (by omega)
    refine ⟨S', v9, ?_⟩
    have e2 := t_closes_p42 (Γ := Γ) (n := n) (m := m) (I := I) (A := A) (S := S) (h := h) (s := s) (c := nn (A 1 2)) (by omega) (ok.2.2.2.2.2.2.2.2.1 s (by omega)) ok.2.2.2.2.1 (by have := ok.2.2.2.2.2.1; have := ok.2.2.2.1; omega) (fX3_closes_p30 fu) r L 7 0 xFU (by omega) (by unfold xFU; omega)
    simp (maxDischargeDepth := 9) only [xbind, xlet, xpure, tw_sel, tg_0, tg_4, tg_9, tg_12, tg_13, tg_14, tg_15, tg_16, tg_17, tg_18, tg_19, tg_20, tg_21, tg_24, tr_1, tr_2, tr_3, tr_5, tr_6, tr_7, tr_8, tr_10, tr_11, tr_22, tr_23, tp_0, tp_4, tp_9, tp_12, tp_13, tp_14, tp_15, tp_16, tp_17, tp_18, tp_19, tp_20, tp_21, tp_24, va_up_self, va_up_ne, va_uu, i_ofNat, i_add, i_mul, Nat.add_zero, Nat.zero_add, reduceIte, if_true, if_false, Nat.reduceEqDiff, ne_eq, not_false_eq_true, Nat.reduceEqDiff, not_true_eq_false] at e2
    rw [fX3_closes_p30]
    simp (maxDischargeDepth := 9) only [xbind, xlet, xpure, tw_sel, tg_0, tg_4, tg_9, tg_12, tg_13, tg_14, tg_15, tg_16, tg_17, tg_18, tg_19, tg_20, tg_21, tg_24, tr_1, tr_2, tr_3, tr_5, tr_6, tr_7, tr_8, tr_10, tr_11, tr_22, tr_23, tp_0, tp_4, tp_9, tp_12, tp_13, tp_14, tp_15, tp_16, tp_17, tp_18, tp_19, tp_20, tp_21, tp_24, va_up_self, va_up_ne, va_uu, i_ofNat, i_add, i_mul, Nat.add_zero, Nat.zero_add, reduceIte, if_true, if_false, Nat.reduceEqDiff, ne_eq, not_false_eq_true, Nat.reduceEqDiff, not_true_eq_false, tl_1 (show 0 < 592 by omega), c1, e2, e]
theorem t_closes_p7 {I : Nat → Int32} {S : Nat → Int64} (r : Int32) : ∀ (k s fu : Nat) (A : Nat → Nat → Int32), okN (A 1) → s + k = nn (A 1 0) → k < fu →
    fX3_closes_p7 fu m r (Int32.ofNat s) Γ (tw m I A S h) n = fX3_closes_p30 xFU m r (Int32.ofNat 0) Γ (tw m I (va_up A 1 (pAgesF s k (A 1))) S h) n := by
  intro k
  induction k with
  | zero =>
    intro s fu A ok hk hf
    obtain ⟨fu, rfl⟩ : ∃ g, fu = g + 1 := ⟨fu - 1, by omega⟩
    have h4 := ok.2.1
    have h0 : A 1 0 = Int32.ofNat s := by have := ok.1; unfold nN at this; rw [this]; congr 1; omega
    have c1 : Int32.ofNat s ≤ Int32.ofNat s := by rw [i_le (by omega) (by omega)]; omega
    rw [fX3_closes_p7]
    simp (maxDischargeDepth := 9) only [xbind, xlet, xpure, tw_sel, tg_0, tg_4, tg_9, tg_12, tg_13, tg_14, tg_15, tg_16, tg_17, tg_18, tg_19, tg_20, tg_21, tg_24, tr_1, tr_2, tr_3, tr_5, tr_6, tr_7, tr_8, tr_10, tr_11, tr_22, tr_23, tp_0, tp_4, tp_9, tp_12, tp_13, tp_14, tp_15, tp_16, tp_17, tp_18, tp_19, tp_20, tp_21, tp_24, va_up_self, va_up_ne, va_uu, i_ofNat, i_add, i_mul, Nat.add_zero, Nat.zero_add, reduceIte, if_true, if_false, Nat.reduceEqDiff, ne_eq, not_false_eq_true, Nat.reduceEqDiff, not_true_eq_false, tl_1 (show 0 < 592 by omega), h0, c1, va_id, pAgesF]
    cases fX3_closes_p30 xFU m r (Int32.ofNat 0) Γ (tw m I A S h) n <;> rfl
  | succ k ih =>
    intro s fu A ok hk hf
    obtain ⟨fu, rfl⟩ : ∃ g, fu = g + 1 := ⟨fu - 1, by omega⟩
    have h4 := ok.2.1
    have h0 : A 1 0 = Int32.ofNat (s + (k + 1)) := by have := ok.1; unfold nN at this; rw [this]; congr 1; omega
    have c1 : ¬ Int32.ofNat (s + (k + 1)) ≤ Int32.ofNat s := by rw [i_le (by omega) (by omega)]; omega
    have hS := ok.2.2.2.2.2.2.2.2.1 s (by omega)
    have e1 := t_ages (Γ := Γ) (n := n) (m := m) (I := I) (A := A) (S := S) (h := h) (s := s) (o := nn (A 1 (zI s 1))) (by omega) hS.1 hS.2.1
    have hz : pAges (A 1) s (nn (A 1 (zI s 1))) 0 = A 1 0 := pAges_ne hS.2.1 (fun k h1 h2 => by unfold zI; omega)
    have e2 := ih (s + 1) fu (va_up A 1 (pAges (A 1) s (nn (A 1 (zI s 1))))) (by rw [va_up_self]; exact ok.ages hS.2.1) (by rw [va_up_self, hz]; omega) (by omega)
    simp (maxDischargeDepth := 9) only [xbind, xlet, xpure, tw_sel, tg_0, tg_4, tg_9, tg_12, tg_13, tg_14, tg_15, tg_16, tg_17, tg_18, tg_19, tg_20, tg_21, tg_24, tr_1, tr_2, tr_3, tr_5, tr_6, tr_7, tr_8, tr_10, tr_11, tr_22, tr_23, tp_0, tp_4, tp_9, tp_12, tp_13, tp_14, tp_15, tp_16, tp_17, tp_18, tp_19, tp_20, tp_21, tp_24, va_up_self, va_up_ne, va_uu, i_ofNat, i_add, i_mul, Nat.add_zero, Nat.zero_add, reduceIte, if_true, if_false, Nat.reduceEqDiff, ne_eq, not_false_eq_true, Nat.reduceEqDiff, not_true_eq_false] at e2
    rw [fX3_closes_p7]
    simp (maxDischargeDepth := 9) only [xbind, xlet, xpure, tw_sel, tg_0, tg_4, tg_9, tg_12, tg_13, tg_14, tg_15, tg_16, tg_17, tg_18, tg_19, tg_20, tg_21, tg_24, tr_1, tr_2, tr_3, tr_5, tr_6, tr_7, tr_8, tr_10, tr_11, tr_22, tr_23, tp_0, tp_4, tp_9, tp_12, tp_13, tp_14, tp_15, tp_16, tp_17, tp_18, tp_19, tp_20, tp_21, tp_24, va_up_self, va_up_ne, va_uu, i_ofNat, i_add, i_mul, Nat.add_zero, Nat.zero_add, reduceIte, if_true, if_false, Nat.reduceEqDiff, ne_eq, not_false_eq_true, Nat.reduceEqDiff, not_true_eq_false, tl_1 (show 0 < 592 by omega), h0, c1, e1, e2, pAgesF]
    cases fX3_closes_p30 xFU m r (Int32.ofNat 0) Γ (tw m I (va_up A 1 (pAgesF (s + 1) k (pAges (A 1) s (nn (A 1 (zI s 1)))))) S h) n <;> rfl
theorem t_closes (TS : Nat → List (Nat × Int32)) {I : Nat → Int32} {S : Nat → Int64} {A : Nat → Nat → Int32} (ok : okN (A 1)) (hy : nn (A 1 1) < 9999) (hF : ∀ t, t < nn (A 1 0) → okF (A 5) t (TS t)) :
    ∃ S' v9, fX3_closes m Γ (tw m I A S h) n = some (.inl (pCloseR (A 1)), tw m (va_up I 9 v9) (va_up (va_up A 4 (pCloseL (A 4) (A 1))) 1 (pClose TS (A 1))) S' h, 0, 0) := by
  have e1 := t_carriesOutAll (Γ := Γ) (n := n) (m := m) (I := I) (A := A) (S := S) (h := h) ok
  have o1 : okN (pCl1 (A 1)) := okN.all _ _ _ ok rfl
  have k0 := pCl1_hd ok (j := 0) (by omega)
  have e2 := t_closes_p7 (Γ := Γ) (n := n) (m := m) (I := I) (S := S) (h := h) (pCloseR (A 1)) (nn (A 1 0)) 0 xFU (va_up A 1 (pCl1 (A 1))) (by rw [va_up_self]; exact o1) (by rw [va_up_self, k0]; omega) (by have := ok.2.1; unfold xFU; omega)
  obtain ⟨o2, k2⟩ := pCl2_ok ok
  have y2 := pCl2_hd ok (j := 1) (by omega)
  have c2 := pCl2_hd ok (j := 2) (by omega)
  obtain ⟨S', v9, e3⟩ := t_closes_p30 (Γ := Γ) (n := n) (m := m) (I := I) (A := va_up A 1 (pCl2 (A 1))) (S := S) (h := h) TS (by rw [va_up_self]; exact o2) (by rw [va_up_self, y2]; exact hy) (by rw [va_up_self, k2, va_up_ne _ _ (by omega)]; exact hF) (pCloseR (A 1)) (A 4) (nn (A 1 0)) 0 xFU (by rw [va_up_self, k2]; omega) (by have := ok.2.1; unfold xFU; omega)
  refine ⟨S', v9, ?_⟩
  have hA4 : va_up (va_up A 1 (pCl2 (A 1))) 4 (A 4) = va_up A 1 (pCl2 (A 1)) := by
    have := va_id (va_up A 1 (pCl2 (A 1))) 4
    rw [va_up_ne _ _ (show 4 ≠ 1 by omega)] at this
    exact this
  have hsw : va_up (va_up (va_up A 1 (pCl2 (A 1))) 4 (pCloseL (A 4) (A 1))) 1 (pClose TS (A 1)) = va_up (va_up A 4 (pCloseL (A 4) (A 1))) 1 (pClose TS (A 1)) := by
    funext j
    simp only [va_ap]
    by_cases j1 : j = 1
    · rw [if_pos j1, if_pos j1]
    · rw [if_neg j1, if_neg j1, if_neg j1]
  have u1 : (pAll (nn (A 1 3)) (A 1) (Int32.ofNat 0)).1 = pCl1 (A 1) := rfl
  have u2 : (pAll (nn (A 1 3)) (A 1) (Int32.ofNat 0)).2 = pCloseR (A 1) := rfl
  rw [Nat.mul_zero, pLedW_0, hA4, va_up_self, k2, c2] at e3
  rw [u1, u2] at e1
  have u3 : pAgesF 0 (nn (A 1 0)) (pCl1 (A 1)) = pCl2 (A 1) := rfl
  have u4 : pLedW (A 4) (pCl2 (A 1)) (nn (A 1 2)) (7 * nn (A 1 0)) = pCloseL (A 4) (A 1) := rfl
  have u5 : pOpenF TS 0 (nn (A 1 0)) (pYear (pCl2 (A 1))) = pClose TS (A 1) := rfl
  simp (maxDischargeDepth := 9) only [xbind, xlet, xpure, tw_sel, tg_0, tg_4, tg_9, tg_12, tg_13, tg_14, tg_15, tg_16, tg_17, tg_18, tg_19, tg_20, tg_21, tg_24, tr_1, tr_2, tr_3, tr_5, tr_6, tr_7, tr_8, tr_10, tr_11, tr_22, tr_23, tp_0, tp_4, tp_9, tp_12, tp_13, tp_14, tp_15, tp_16, tp_17, tp_18, tp_19, tp_20, tp_21, tp_24, va_up_self, va_up_ne, va_uu, i_ofNat, i_add, i_mul, Nat.add_zero, Nat.zero_add, reduceIte, if_true, if_false, Nat.reduceEqDiff, ne_eq, not_false_eq_true, Nat.reduceEqDiff, not_true_eq_false, u3] at e2
  rw [u4, u5, hsw] at e3
  simp (maxDischargeDepth := 9) only [fX3_closes, xbind, xlet, xpure, tw_sel, tg_0, tg_4, tg_9, tg_12, tg_13, tg_14, tg_15, tg_16, tg_17, tg_18, tg_19, tg_20, tg_21, tg_24, tr_1, tr_2, tr_3, tr_5, tr_6, tr_7, tr_8, tr_10, tr_11, tr_22, tr_23, tp_0, tp_4, tp_9, tp_12, tp_13, tp_14, tp_15, tp_16, tp_17, tp_18, tp_19, tp_20, tp_21, tp_24, va_up_self, va_up_ne, va_uu, i_ofNat, i_add, i_mul, Nat.add_zero, Nat.zero_add, reduceIte, if_true, if_false, Nat.reduceEqDiff, ne_eq, not_false_eq_true, Nat.reduceEqDiff, not_true_eq_false, e1, e2, e3]
end TW9
