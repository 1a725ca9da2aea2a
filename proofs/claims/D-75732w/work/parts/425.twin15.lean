/-! part 425: the twin: years pass; plans are made -/
theorem pYear_ne {N : Nat → Int32} {j : Nat} (h1 : j ≠ 1) (h2 : j ≠ 2) : pYear N j = N j := by
  unfold pYear
  rw [va_up_ne _ _ h1, va_up_ne _ _ h2]
theorem pOpenF_ne (TS : Nat → List (Nat × Int32)) : ∀ (k s : Nat) (N : Nat → Int32) (j : Nat), (∀ t a, s ≤ t → t < s + k → 5 ≤ a → a ≤ 11 → j ≠ zI t a) → pOpenF TS s k N j = N j := by
  intro k
  induction k with
  | zero => intro s N j h; rfl
  | succ k ih =>
    intro s N j h
    unfold pOpenF
    rw [ih (s + 1) _ j (fun t a h1 h2 h3 h4 => h t a (by omega) (by omega) h3 h4), pOpen_ne (fun a h1 h2 => h s a (by omega) (by omega) h1 h2)]
theorem pClose_hd (TS : Nat → List (Nat × Int32)) {N : Nat → Int32} (ok : okN N) : pClose TS N 0 = N 0 ∧ pClose TS N 1 = N 1 + Int32.ofNat 1 ∧ pClose TS N 2 = N 2 + Int32.ofNat 1 := by
  have e : ∀ j, j < 64 → pClose TS N j = pYear (pCl2 N) j := fun j hj => pOpenF_ne TS _ _ _ _ (fun t a h1 h2 h3 h4 => by unfold zI; omega)
  refine ⟨?_, ?_, ?_⟩
  · rw [e 0 (by omega), pYear_ne (by omega) (by omega), pCl2_hd ok (by omega)]
  · rw [e 1 (by omega)]
    unfold pYear
    rw [va_up_self, va_up_ne _ _ (by omega), pCl2_hd ok (by omega)]
  · rw [e 2 (by omega)]
    unfold pYear
    rw [va_up_ne _ _ (by omega), va_up_self, pCl2_hd ok (by omega)]
theorem okN.close (TS : Nat → List (Nat × Int32)) {N : Nat → Int32} (ok : okN N) (hy : nn (N 1) < 9999) : okN (pClose TS N) := by
  refine okN.openF TS _ _ _ (okN.year (pCl2_ok ok).1 ?_)
  rw [pCl2_hd ok (by omega)]
  exact hy
theorem pClose_y (TS : Nat → List (Nat × Int32)) {N : Nat → Int32} (ok : okN N) : nn (pClose TS N 1) = nn (N 1) + 1 := by
  have h1 := ok.2.2.1
  have h9 := ok.2.2.2.1
  unfold nN at h1
  rw [(pClose_hd TS ok).2.1, h1, i_add, nn_of (by omega), ← h1]
def pPass (TS : Nat → List (Nat × Int32)) : Nat → (Nat → Int32) → (Nat → Int32) → Int32 → (Nat → Int32) × (Nat → Int32) × Int32
  | 0, N, L, r => (N, L, r)
  | k + 1, N, L, r => pPass TS k (pClose TS N) (pCloseL L N) (r + pCloseR N)
/-- plan k stands ahead of the one that is made, or is like it: from part w on -/
def pAh (N M : Nat → Int32) (k : Nat) : Nat → Nat → Bool
  | _, 0 => true
  | w, r + 1 => if N (4 + 5 * k + w) = M w then pAh N M k (w + 1) r else decide (N (4 + 5 * k + w) < M w)
def pPos (N M : Nat → Int32) : Nat → Nat → Nat
  | k, 0 => k
  | k, r + 1 => if pAh N M k 0 4 then pPos N M (k + 1) r else k
def pIns (N M : Nat → Int32) (k cnt : Nat) : Nat → Int32 := fun j => if j = 3 then Int32.ofNat (cnt + 1) else if 4 + 5 * k ≤ j ∧ j < 4 + 5 * k + 5 then M (j - (4 + 5 * k)) else if 4 + 5 * k + 5 ≤ j ∧ j < 4 + 5 * (cnt + 1) then N (j - 5) else N j
/-- moved up by five from i on -/
def pMv (N : Nat → Int32) (i e : Nat) : Nat → Int32 := fun j => if i + 5 ≤ j ∧ j < e + 5 then N (j - 5) else N j
theorem pMv_step {N : Nat → Int32} {i e : Nat} (h : i < e) : va_up (pMv N (i + 1) e) (i + 5) (pMv N (i + 1) e i) = pMv N i e := by
  funext j
  have q : pMv N (i + 1) e i = N i := by unfold pMv; rw [if_neg (by omega)]
  rw [va_ap, q]
  unfold pMv
  by_cases hj : j = i + 5
  · rw [if_pos hj, if_pos (by omega)]
    congr 1
    omega
  · rw [if_neg hj]
    by_cases hc : i + 1 + 5 ≤ j ∧ j < e + 5
    · rw [if_pos hc, if_pos (by omega)]
    · rw [if_neg hc, if_neg (by omega)]
theorem pMv_e {N : Nat → Int32} {e : Nat} : pMv N e e = N := by
  funext j
  unfold pMv
  rw [if_neg (by omega)]
theorem va_4141 {α : Type} (f : Nat → α) (a b c d : α) : va_up (va_up (va_up (va_up f 4 a) 1 b) 4 c) 1 d = va_up (va_up f 4 c) 1 d := by
  funext q
  simp only [va_ap]
  by_cases h1 : q = 1 <;> by_cases h4 : q = 4 <;> simp [h1, h4]
section TW16
variable {Γ : Nat → Option Nat} {m n : Nat} {h : xH}
theorem t_pass_p67 (TS : Nat → List (Nat × Int32)) {y : Nat} (hy50 : y ≤ 50) : ∀ (k x fu : Nat) (I : Nat → Int32) (A : Nat → Nat → Int32) (S : Nat → Int64) (r : Int32), okN (A 1) → nn (A 1 1) + k ≤ 9999 → (∀ t, t < nn (A 1 0) → okF (A 5) t (TS t)) → x + k = y → k < fu →
    ∃ S' v9, fX3_pass_p67 fu m (Int32.ofNat y) r (Int32.ofNat x) Γ (tw m I A S h) n = some (.inl (pPass TS k (A 1) (A 4) r).2.2, tw m (va_up I 9 v9) (va_up (va_up A 4 (pPass TS k (A 1) (A 4) r).2.1) 1 (pPass TS k (A 1) (A 4) r).1) S' h, 0, 0) := by
  intro k
  induction k with
  | zero =>
    intro x fu I A S r ok hy hF hx hf
    obtain ⟨fu, rfl⟩ : ∃ g, fu = g + 1 := ⟨fu - 1, by omega⟩
    have c1 : Int32.ofNat y ≤ Int32.ofNat x := by rw [i_le (by omega) (by omega)]; omega
    refine ⟨S, I 9, ?_⟩
    rw [fX3_pass_p67]
    simp (maxDischargeDepth := 9) only [xbind, xlet, xpure, tw_sel, tg_0, tg_4, tg_9, tg_12, tg_13, tg_14, tg_15, tg_16, tg_17, tg_18, tg_19, tg_20, tg_21, tg_24, tr_1, tr_2, tr_3, tr_5, tr_6, tr_7, tr_8, tr_10, tr_11, tr_22, tr_23, tp_0, tp_4, tp_9, tp_12, tp_13, tp_14, tp_15, tp_16, tp_17, tp_18, tp_19, tp_20, tp_21, tp_24, va_up_self, va_up_ne, va_uu, i_ofNat, i_add, i_mul, Nat.add_zero, Nat.zero_add, reduceIte, if_true, if_false, Nat.reduceEqDiff, ne_eq, not_false_eq_true, Nat.reduceEqDiff, not_true_eq_false, c1, pPass, va_id]
  | succ k ih =>
    intro x fu I A S r ok hy hF hx hf
    obtain ⟨fu, rfl⟩ : ∃ g, fu = g + 1 := ⟨fu - 1, by omega⟩
    have c1 : ¬ Int32.ofNat y ≤ Int32.ofNat x := by rw [i_le (by omega) (by omega)]; omega
    obtain ⟨S1, v1, e1⟩ := t_closes (Γ := Γ) (n := n) (m := m) (I := I) (A := A) (S := S) (h := h) TS ok (by omega) hF
    obtain ⟨S2, v2, e2⟩ := ih (x + 1) fu (va_up I 9 v1) (va_up (va_up A 4 (pCloseL (A 4) (A 1))) 1 (pClose TS (A 1))) S1 (r + pCloseR (A 1)) (by rw [va_up_self]; exact ok.close TS (by omega)) (by rw [va_up_self, pClose_y TS ok]; omega) (by
      rw [va_up_self, (pClose_hd TS ok).1, va_up_ne _ _ (by omega), va_up_ne _ _ (by omega)]
      exact hF) (by omega) (by omega)
    refine ⟨S2, v2, ?_⟩
    simp (maxDischargeDepth := 9) only [xbind, xlet, xpure, tw_sel, tg_0, tg_4, tg_9, tg_12, tg_13, tg_14, tg_15, tg_16, tg_17, tg_18, tg_19, tg_20, tg_21, tg_24, tr_1, tr_2, tr_3, tr_5, tr_6, tr_7, tr_8, tr_10, tr_11, tr_22, tr_23, tp_0, tp_4, tp_9, tp_12, tp_13, tp_14, tp_15, tp_16, tp_17, tp_18, tp_19, tp_20, tp_21, tp_24, va_up_self, va_up_ne, va_uu, i_ofNat, i_add, i_mul, Nat.add_zero, Nat.zero_add, reduceIte, if_true, if_false, Nat.reduceEqDiff, ne_eq, not_false_eq_true, Nat.reduceEqDiff, not_true_eq_false] at e2
    rw [va_4141] at e2
    rw [fX3_pass_p67]
    simp (maxDischargeDepth := 9) only [xbind, xlet, xpure, tw_sel, tg_0, tg_4, tg_9, tg_12, tg_13, tg_14, tg_15, tg_16, tg_17, tg_18, tg_19, tg_20, tg_21, tg_24, tr_1, tr_2, tr_3, tr_5, tr_6, tr_7, tr_8, tr_10, tr_11, tr_22, tr_23, tp_0, tp_4, tp_9, tp_12, tp_13, tp_14, tp_15, tp_16, tp_17, tp_18, tp_19, tp_20, tp_21, tp_24, va_up_self, va_up_ne, va_uu, i_ofNat, i_add, i_mul, Nat.add_zero, Nat.zero_add, reduceIte, if_true, if_false, Nat.reduceEqDiff, ne_eq, not_false_eq_true, Nat.reduceEqDiff, not_true_eq_false, c1, e1, e2, pPass]
variable {I : Nat → Int32} {A : Nat → Nat → Int32} {S : Nat → Int64} {d : Nat}
theorem t_pass0 {p : Int32} (hp : ¬ (1 ≤ p.toInt ∧ p.toInt ≤ 50)) : fX3_pass m p Γ (tw m I A S h) n = some (.inl (Int32.ofNat 0), tw m (va_up I 0 (Int32.ofNat 1)) A S h, 0, 0) := by
  have e1 := t_in0 (Γ := Γ) (h := tw m (va_up I 0 (Int32.ofNat 0)) A S h) (n := n) (a := p.toInt64) (b := 1) (c := 50) (by rw [Int32.toInt_toInt64]; exact hp)
  simp (maxDischargeDepth := 9) only [fX3_pass_p50, fX3_pass_p23, fX3_pass, xbind, xlet, xpure, tw_sel, tg_0, tg_4, tg_9, tg_12, tg_13, tg_14, tg_15, tg_16, tg_17, tg_18, tg_19, tg_20, tg_21, tg_24, tr_1, tr_2, tr_3, tr_5, tr_6, tr_7, tr_8, tr_10, tr_11, tr_22, tr_23, tp_0, tp_4, tp_9, tp_12, tp_13, tp_14, tp_15, tp_16, tp_17, tp_18, tp_19, tp_20, tp_21, tp_24, va_up_self, va_up_ne, va_uu, i_ofNat, i_add, i_mul, Nat.add_zero, Nat.zero_add, reduceIte, if_true, if_false, Nat.reduceEqDiff, ne_eq, not_false_eq_true, Nat.reduceEqDiff, not_true_eq_false, e1, i_10, t_throws1]
theorem t_pass2 (ok : okN (A 1)) {y : Nat} (h1 : 1 ≤ y) (h50 : y ≤ 50) (hy : ¬ nn (A 1 1) + y ≤ 9999) : fX3_pass m (Int32.ofNat y) Γ (tw m I A S h) n = some (.inl (Int32.ofNat 0), tw m (va_up I 0 (Int32.ofNat 2)) A S h, 0, 0) := by
  have hn := ok.2.2.1
  have h9 := ok.2.2.2.1
  unfold nN at hn
  have e1 := t_in1 (Γ := Γ) (h := tw m (va_up I 0 (Int32.ofNat 0)) A S h) (n := n) (a := (Int32.ofNat y).toInt64) (b := 1) (c := 50) (by rw [Int32.toInt_toInt64, i_toInt (by omega)]; show (1 : Int) ≤ y; omega) (by rw [Int32.toInt_toInt64, i_toInt (by omega)]; show (y : Int) ≤ 50; omega)
  have c1 : ¬ A 1 1 + Int32.ofNat y ≤ Int32.ofNat 9999 := by rw [hn, i_add, i_le (by omega) (by omega)]; exact hy
  simp (maxDischargeDepth := 9) only [fX3_pass_p50, fX3_pass_p23, fX3_pass, xbind, xlet, xpure, tw_sel, tg_0, tg_4, tg_9, tg_12, tg_13, tg_14, tg_15, tg_16, tg_17, tg_18, tg_19, tg_20, tg_21, tg_24, tr_1, tr_2, tr_3, tr_5, tr_6, tr_7, tr_8, tr_10, tr_11, tr_22, tr_23, tp_0, tp_4, tp_9, tp_12, tp_13, tp_14, tp_15, tp_16, tp_17, tp_18, tp_19, tp_20, tp_21, tp_24, va_up_self, va_up_ne, va_uu, i_ofNat, i_add, i_mul, Nat.add_zero, Nat.zero_add, reduceIte, if_true, if_false, Nat.reduceEqDiff, ne_eq, not_false_eq_true, Nat.reduceEqDiff, not_true_eq_false, e1, i_10, t_throws0, tl_1 (show 1 < 592 by omega), c1, t_throws1]
theorem t_pass1 (TS : Nat → List (Nat × Int32)) (ok : okN (A 1)) (hd : I 4 = Int32.ofNat d) (hd8 : d ≤ 8) (hF : ∀ t, t < nn (A 1 0) → okF (A 5) t (TS t)) {y : Nat} (h1 : 1 ≤ y) (h50 : y ≤ 50) (hy : nn (A 1 1) + y ≤ 9999) : ∃ S' v9, fX3_pass m (Int32.ofNat y) Γ (tw m I A S h) n = some (.inl (pPass TS y (A 1) (A 4) (Int32.ofNat 0)).2.2, tw m (va_up (kI I d) 9 v9) (va_up (va_up (va_up A 3 (pPast (A 3) (A 1) d)) 4 (pPass TS y (A 1) (A 4) (Int32.ofNat 0)).2.1) 1 (pPass TS y (A 1) (A 4) (Int32.ofNat 0)).1) S' h, 0, 0) := by
  have hn := ok.2.2.1
  have h9 := ok.2.2.2.1
  unfold nN at hn
  have e1 := t_in1 (Γ := Γ) (h := tw m (va_up I 0 (Int32.ofNat 0)) A S h) (n := n) (a := (Int32.ofNat y).toInt64) (b := 1) (c := 50) (by rw [Int32.toInt_toInt64, i_toInt (by omega)]; show (1 : Int) ≤ y; omega) (by rw [Int32.toInt_toInt64, i_toInt (by omega)]; show (y : Int) ≤ 50; omega)
  have c1 : A 1 1 + Int32.ofNat y ≤ Int32.ofNat 9999 := by rw [hn, i_add, i_le (by omega) (by omega)]; exact hy
  have e3 := t_keeps0 (Γ := Γ) (n := n) (m := m) (I := I) (A := A) (S := S) (h := h) hd hd8
  obtain ⟨S', v9, e4⟩ := t_pass_p67 (Γ := Γ) (n := n) (m := m) (h := h) TS h50 y 0 xFU (kI I d) (va_up A 3 (pPast (A 3) (A 1) d)) S (Int32.ofNat 0) (by rw [va_up_ne _ _ (by omega)]; exact ok) (by rw [va_up_ne _ _ (by omega)]; exact hy) (by rw [va_up_ne _ _ (by omega), va_up_ne _ _ (by omega)]; exact hF) (by omega) (by unfold xFU; omega)
  refine ⟨S', v9, ?_⟩
  simp (maxDischargeDepth := 9) only [xbind, xlet, xpure, tw_sel, tg_0, tg_4, tg_9, tg_12, tg_13, tg_14, tg_15, tg_16, tg_17, tg_18, tg_19, tg_20, tg_21, tg_24, tr_1, tr_2, tr_3, tr_5, tr_6, tr_7, tr_8, tr_10, tr_11, tr_22, tr_23, tp_0, tp_4, tp_9, tp_12, tp_13, tp_14, tp_15, tp_16, tp_17, tp_18, tp_19, tp_20, tp_21, tp_24, va_up_self, va_up_ne, va_uu, i_ofNat, i_add, i_mul, Nat.add_zero, Nat.zero_add, reduceIte, if_true, if_false, Nat.reduceEqDiff, ne_eq, not_false_eq_true, Nat.reduceEqDiff, not_true_eq_false] at e4
  simp (maxDischargeDepth := 9) only [fX3_pass_p50, fX3_pass_p23, fX3_pass, xbind, xlet, xpure, tw_sel, tg_0, tg_4, tg_9, tg_12, tg_13, tg_14, tg_15, tg_16, tg_17, tg_18, tg_19, tg_20, tg_21, tg_24, tr_1, tr_2, tr_3, tr_5, tr_6, tr_7, tr_8, tr_10, tr_11, tr_22, tr_23, tp_0, tp_4, tp_9, tp_12, tp_13, tp_14, tp_15, tp_16, tp_17, tp_18, tp_19, tp_20, tp_21, tp_24, va_up_self, va_up_ne, va_uu, i_ofNat, i_add, i_mul, Nat.add_zero, Nat.zero_add, reduceIte, if_true, if_false, Nat.reduceEqDiff, ne_eq, not_false_eq_true, Nat.reduceEqDiff, not_true_eq_false, e1, i_10, t_throws0, tl_1 (show 1 < 592 by omega), c1, e3, e4]
theorem t_isAhead_p2 {k : Nat} (hk : k < 12) : ∀ (r w fu : Nat), w + r = 4 → r < fu → fX3_isAhead_p2 fu m (Int32.ofNat k) (Int32.ofNat w) Γ (tw m I A S h) n = some (.inl (b2i (pAh (A 1) (A 10) k w r)), tw m I A S h, 0, 0) := by
  intro r
  induction r with
  | zero =>
    intro w fu hw hf
    obtain ⟨fu, rfl⟩ : ∃ g, fu = g + 1 := ⟨fu - 1, by omega⟩
    have hw' : w = 4 := by omega
    subst hw'
    have c1 : Int32.ofNat 4 ≤ Int32.ofNat 4 := by decide
    rw [fX3_isAhead_p2]
    simp (maxDischargeDepth := 9) only [xbind, xlet, xpure, tw_sel, tg_0, tg_4, tg_9, tg_12, tg_13, tg_14, tg_15, tg_16, tg_17, tg_18, tg_19, tg_20, tg_21, tg_24, tr_1, tr_2, tr_3, tr_5, tr_6, tr_7, tr_8, tr_10, tr_11, tr_22, tr_23, tp_0, tp_4, tp_9, tp_12, tp_13, tp_14, tp_15, tp_16, tp_17, tp_18, tp_19, tp_20, tp_21, tp_24, va_up_self, va_up_ne, va_uu, i_ofNat, i_add, i_mul, Nat.add_zero, Nat.zero_add, reduceIte, if_true, if_false, Nat.reduceEqDiff, ne_eq, not_false_eq_true, Nat.reduceEqDiff, not_true_eq_false, c1, pAh, b2i_t]
  | succ r ih =>
    intro w fu hw hf
    obtain ⟨fu, rfl⟩ : ∃ g, fu = g + 1 := ⟨fu - 1, by omega⟩
    have c1 : ¬ Int32.ofNat 4 ≤ Int32.ofNat w := by rw [i_le (by omega) (by omega)]; omega
    have e := ih (w + 1) fu (by omega) (by omega)
    rw [fX3_isAhead_p2]
    unfold pAh
    by_cases c2 : A 1 (4 + 5 * k + w) = A 10 w
    · simp (maxDischargeDepth := 9) only [xbind, xlet, xpure, tw_sel, tg_0, tg_4, tg_9, tg_12, tg_13, tg_14, tg_15, tg_16, tg_17, tg_18, tg_19, tg_20, tg_21, tg_24, tr_1, tr_2, tr_3, tr_5, tr_6, tr_7, tr_8, tr_10, tr_11, tr_22, tr_23, tp_0, tp_4, tp_9, tp_12, tp_13, tp_14, tp_15, tp_16, tp_17, tp_18, tp_19, tp_20, tp_21, tp_24, va_up_self, va_up_ne, va_uu, i_ofNat, i_add, i_mul, Nat.add_zero, Nat.zero_add, reduceIte, if_true, if_false, Nat.reduceEqDiff, ne_eq, not_false_eq_true, Nat.reduceEqDiff, not_true_eq_false, c1, tl_1 (show 4 + 5 * k + w < 592 by omega), tl_10 (show w < 5 by omega), eq_true c2, e]
    · by_cases c3 : A 1 (4 + 5 * k + w) < A 10 w
      · have c4 : ¬ A 10 w ≤ A 1 (4 + 5 * k + w) := Int32.not_le.mpr c3
        simp (maxDischargeDepth := 9) only [xbind, xlet, xpure, tw_sel, tg_0, tg_4, tg_9, tg_12, tg_13, tg_14, tg_15, tg_16, tg_17, tg_18, tg_19, tg_20, tg_21, tg_24, tr_1, tr_2, tr_3, tr_5, tr_6, tr_7, tr_8, tr_10, tr_11, tr_22, tr_23, tp_0, tp_4, tp_9, tp_12, tp_13, tp_14, tp_15, tp_16, tp_17, tp_18, tp_19, tp_20, tp_21, tp_24, va_up_self, va_up_ne, va_uu, i_ofNat, i_add, i_mul, Nat.add_zero, Nat.zero_add, reduceIte, if_true, if_false, Nat.reduceEqDiff, ne_eq, not_false_eq_true, Nat.reduceEqDiff, not_true_eq_false, c1, tl_1 (show 4 + 5 * k + w < 592 by omega), tl_10 (show w < 5 by omega), c2, c4, eq_true c3, decide_true, b2i_t]
      · have c4 : A 10 w ≤ A 1 (4 + 5 * k + w) := Int32.not_lt.mp c3
        simp (maxDischargeDepth := 9) only [xbind, xlet, xpure, tw_sel, tg_0, tg_4, tg_9, tg_12, tg_13, tg_14, tg_15, tg_16, tg_17, tg_18, tg_19, tg_20, tg_21, tg_24, tr_1, tr_2, tr_3, tr_5, tr_6, tr_7, tr_8, tr_10, tr_11, tr_22, tr_23, tp_0, tp_4, tp_9, tp_12, tp_13, tp_14, tp_15, tp_16, tp_17, tp_18, tp_19, tp_20, tp_21, tp_24, va_up_self, va_up_ne, va_uu, i_ofNat, i_add, i_mul, Nat.add_zero, Nat.zero_add, reduceIte, if_true, if_false, Nat.reduceEqDiff, ne_eq, not_false_eq_true, Nat.reduceEqDiff, not_true_eq_false, c1, tl_1 (show 4 + 5 * k + w < 592 by omega), tl_10 (show w < 5 by omega), c2, eq_true c4, c3, decide_false, b2i_f]
theorem t_isAhead {k : Nat} (hk : k < 12) : fX3_isAhead m (Int32.ofNat k) Γ (tw m I A S h) n = some (.inl (b2i (pAh (A 1) (A 10) k 0 4)), tw m I A S h, 0, 0) := by
  have e := t_isAhead_p2 (Γ := Γ) (n := n) (m := m) (I := I) (A := A) (S := S) (h := h) hk 4 0 xFU (by omega) (by unfold xFU; omega)
  simp (maxDischargeDepth := 9) only [fX3_isAhead, xbind, xlet, xpure, tw_sel, tg_0, tg_4, tg_9, tg_12, tg_13, tg_14, tg_15, tg_16, tg_17, tg_18, tg_19, tg_20, tg_21, tg_24, tr_1, tr_2, tr_3, tr_5, tr_6, tr_7, tr_8, tr_10, tr_11, tr_22, tr_23, tp_0, tp_4, tp_9, tp_12, tp_13, tp_14, tp_15, tp_16, tp_17, tp_18, tp_19, tp_20, tp_21, tp_24, va_up_self, va_up_ne, va_uu, i_ofNat, i_add, i_mul, Nat.add_zero, Nat.zero_add, reduceIte, if_true, if_false, Nat.reduceEqDiff, ne_eq, not_false_eq_true, Nat.reduceEqDiff, not_true_eq_false, e]
end TW16
