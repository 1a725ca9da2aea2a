/-! part 414: the twin: a state's rightness, plans carried out -/
def nN (v : Int32) : Prop := v = Int32.ofNat (nn v)
/-- species s is right: its oldest age, its adult age -/
def okS (N : Nat → Int32) (s : Nat) : Prop := nN (N (zI s 1)) ∧ nn (N (zI s 1)) ≤ 12 ∧ nN (N (zI s 2)) ∧ nn (N (zI s 2)) ≤ nn (N (zI s 1))
/-- plan j is right -/
def okP (N : Nat → Int32) (j : Nat) : Prop := nN (N (4 + 5 * j + 2)) ∧ nn (N (4 + 5 * j + 2)) < nn (N 0) ∧ nN (N (4 + 5 * j + 3)) ∧ nn (N (4 + 5 * j + 3)) ≤ nn (N (zI (nn (N (4 + 5 * j + 2))) 1))
def okN (N : Nat → Int32) : Prop := nN (N 0) ∧ nn (N 0) ≤ 4 ∧ nN (N 1) ∧ nn (N 1) ≤ 9999 ∧ nN (N 2) ∧ nn (N 2) ≤ nn (N 1) ∧ nN (N 3) ∧ nn (N 3) ≤ 12 ∧ (∀ s, s < nn (N 0) → okS N s) ∧ ∀ j, j < nn (N 3) → okP N j
theorem nn_of {a : Nat} (h : a < 2147483648) : nn (Int32.ofNat a) = a := i_nat h
theorem nN_of (a : Nat) (h : a < 2147483648) : nN (Int32.ofNat a) := by unfold nN; rw [nn_of h]
/-- right again: heads, plans, oldest and adult ages are as they were -/
theorem okN.congr {N M : Nat → Int32} (h : okN N) (h1 : ∀ j, j < 64 → M j = N j) (h2 : ∀ s, s < 4 → M (zI s 1) = N (zI s 1) ∧ M (zI s 2) = N (zI s 2)) : okN M := by
  obtain ⟨a1, a2, a3, a4, a5, a6, a7, a8, a9, a10⟩ := h
  refine ⟨?_, ?_, ?_, ?_, ?_, ?_, ?_, ?_, fun s hs => ?_, fun j hj => ?_⟩
  · rw [h1 0 (by omega)]; exact a1
  · rw [h1 0 (by omega)]; exact a2
  · rw [h1 1 (by omega)]; exact a3
  · rw [h1 1 (by omega)]; exact a4
  · rw [h1 2 (by omega)]; exact a5
  · rw [h1 2 (by omega), h1 1 (by omega)]; exact a6
  · rw [h1 3 (by omega)]; exact a7
  · rw [h1 3 (by omega)]; exact a8
  · rw [h1 0 (by omega)] at hs
    have := a9 s hs
    unfold okS
    rw [(h2 s (by omega)).1, (h2 s (by omega)).2]
    exact this
  · rw [h1 3 (by omega)] at hj
    have hp := a10 j hj
    have := hp.2.1
    unfold okP
    rw [h1 (4 + 5 * j + 2) (by omega), h1 (4 + 5 * j + 3) (by omega), h1 0 (by omega), (h2 _ (by omega)).1]
    exact hp
theorem pLose_ne {N : Nat → Int32} {s o j : Nat} {b : Int32} (h : j ≠ zI s 4) : pLose N s o b j = N j := by
  unfold pLose
  split
  · rfl
  · rw [va_up_ne _ _ h]
theorem pAdds_ne {N : Nat → Int32} {s x j : Nat} {v : Int32} (h1 : j ≠ zI s (39 + x)) (h2 : j ≠ zI s 11) : pAdds N s x v j = N j := by
  unfold pAdds
  rw [va_up_ne _ _ h2, va_up_ne _ _ h1]
theorem pTake_ne {N : Nat → Int32} {s o x j : Nat} {v : Int32} (h1 : j ≠ zI s (39 + x)) (h2 : j ≠ zI s 10) (h3 : j ≠ zI s 4) : pTake N s o x v j = N j := by
  unfold pTake pTake0
  rw [pLose_ne h3, va_up_ne _ _ h2, va_up_ne _ _ h1]
theorem pSickens_ne {N : Nat → Int32} {s o x k j : Nat} {th : Int32} (h1 : j < zI s (39 + x) ∨ zI s (39 + x + k) ≤ j) (h2 : j ≠ zI s 9) (h3 : j ≠ zI s 4) : (pSickens N s o x k th).1 j = N j := by
  unfold pSickens
  dsimp only
  rw [pLose_ne h3, va_up_ne _ _ h2, pSick_ne _ _ _ _ _ _ _ h1]
/-- the plan that comes first is carried out -/
def pCarry (N : Nat → Int32) : Nat → Int32 :=
  if N 5 = Int32.ofNat 0 then pAdds N (nn (N 6)) (nn (N 7)) (imin (N 8) (Int32.ofNat 1000000 - N (zI (nn (N 6)) (39 + nn (N 7)))))
  else if N 5 = Int32.ofNat 1 then pTake N (nn (N 6)) (nn (N (zI (nn (N 6)) 1))) (nn (N 7)) (imin (N 8) (imin (N (zI (nn (N 6)) (39 + nn (N 7)))) (imax (Int32.ofNat 0) (N (zI (nn (N 6)) 5) - N (zI (nn (N 6)) 10)))))
  else (pSickens N (nn (N 6)) (nn (N (zI (nn (N 6)) 1))) (nn (N 7)) 1 (N 8)).1
theorem pCarry_ne {N : Nat → Int32} {j : Nat} (h7 : nn (N 7) ≤ 12) (hj : ∀ k, 3 ≤ k → k < 52 → j ≠ zI (nn (N 6)) k) : pCarry N j = N j := by
  unfold pCarry
  split
  · exact pAdds_ne (hj _ (by omega) (by omega)) (hj _ (by omega) (by omega))
  · split
    · exact pTake_ne (hj _ (by omega) (by omega)) (hj _ (by omega) (by omega)) (hj _ (by omega) (by omega))
    · refine pSickens_ne ?_ (hj _ (by omega) (by omega)) (hj _ (by omega) (by omega))
      have := hj (39 + nn (N 7)) (by omega) (by omega)
      unfold zI at *
      omega
/-- plan k of cnt is removed -/
def pRem (N : Nat → Int32) (k cnt : Nat) : Nat → Int32 := fun j => if j = 3 then Int32.ofNat (cnt - 1) else if 4 + 5 * k ≤ j ∧ j < 4 + 5 * (cnt - 1) then N (j + 5) else N j
section TW4
variable {Γ : Nat → Option Nat} {m n : Nat} {I : Nat → Int32} {S : Nat → Int64} {h : xH}
theorem t_carriesOut {A : Nat → Nat → Int32} (ok : okN (A 1)) (hc : 0 < nn (A 1 3)) : fX3_carriesOut m (Int32.ofNat 4) Γ (tw m I A S h) n = some (.inl (), tw m I (va_up A 1 (pCarry (A 1))) S h, 0, 0) := by
  obtain ⟨a1, a2, a3, a4, a5, a6, a7, a8, a9, a10⟩ := ok
  have hp := a10 0 hc
  unfold okP at hp
  simp only [Nat.mul_zero, Nat.add_zero, Nat.reduceAdd] at hp
  obtain ⟨p1, p2, p3, p4⟩ := hp
  have hS := a9 _ p2
  obtain ⟨q1, q2, q3, q4⟩ := hS
  generalize hs : nn (A 1 6) = s at *
  generalize hx : nn (A 1 7) = x at *
  generalize hoo : nn (A 1 (zI s 1)) = o at *
  have hs4 : s < 4 := by omega
  have hx13 : x < 13 := by omega
  unfold nN at p1 p3 q1
  rw [hs] at p1
  rw [hx] at p3
  rw [hoo] at q1
  have e1 := t_cohortOf (Γ := Γ) (n := n) (m := m) (I := I) (A := A) (S := S) (h := h) hs4 (show x < 93 by omega)
  have e2 := t_leftOf (Γ := Γ) (n := n) (m := m) (I := I) (A := A) (S := S) (h := h) hs4
  have e3 := t_adds (Γ := Γ) (n := n) (m := m) (I := I) (A := A) (S := S) (h := h) hs4 hx13 (imin (A 1 8) (Int32.ofNat 1000000 - A 1 (zI s (39 + x))))
  have e4 := t_takesOut (Γ := Γ) (n := n) (m := m) (I := I) (A := A) (S := S) (h := h) hs4 q1 q2 hx13 (imin (A 1 8) (imin (A 1 (zI s (39 + x))) (imax (Int32.ofNat 0) (A 1 (zI s 5) - A 1 (zI s 10)))))
  have e5 := t_sickens (Γ := Γ) (n := n) (m := m) (I := I) (A := A) (S := S) (h := h) hs4 q1 q2 hx13 (Nat.le_refl x) (A 1 8)
  rw [show x + 1 - x = 1 by omega] at e5
  simp (maxDischargeDepth := 9) only [fX3_carriesOut, xbind, xlet, xpure, tw_sel, tg_0, tg_4, tg_9, tg_12, tg_13, tg_14, tg_15, tg_16, tg_17, tg_18, tg_19, tg_20, tg_21, tg_24, tr_1, tr_2, tr_3, tr_5, tr_6, tr_7, tr_8, tr_10, tr_11, tr_22, tr_23, tp_0, tp_4, tp_9, tp_12, tp_13, tp_14, tp_15, tp_16, tp_17, tp_18, tp_19, tp_20, tp_21, tp_24, va_up_self, va_up_ne, va_uu, i_ofNat, i_add, i_mul, Nat.add_zero, Nat.zero_add, reduceIte, if_true, if_false, Nat.reduceEqDiff, ne_eq, not_false_eq_true, Nat.reduceEqDiff, not_true_eq_false, tl_1 (show 4 + 1 < 592 by omega), tl_1 (show 4 + 2 < 592 by omega), tl_1 (show 4 + 3 < 592 by omega), tl_1 (show 4 + 4 < 592 by omega), Nat.reduceAdd]
  rw [p1, p3]
  simp (maxDischargeDepth := 9) only [e1, xbind, xlet, xpure, tw_sel, tg_0, tg_4, tg_9, tg_12, tg_13, tg_14, tg_15, tg_16, tg_17, tg_18, tg_19, tg_20, tg_21, tg_24, tr_1, tr_2, tr_3, tr_5, tr_6, tr_7, tr_8, tr_10, tr_11, tr_22, tr_23, tp_0, tp_4, tp_9, tp_12, tp_13, tp_14, tp_15, tp_16, tp_17, tp_18, tp_19, tp_20, tp_21, tp_24, va_up_self, va_up_ne, va_uu, i_ofNat, i_add, i_mul, Nat.add_zero, Nat.zero_add, reduceIte, if_true, if_false, Nat.reduceEqDiff, ne_eq, not_false_eq_true, Nat.reduceEqDiff, not_true_eq_false]
  unfold pCarry
  rw [hs, hx, hoo]
  by_cases c1 : A 1 5 = Int32.ofNat 0
  · simp (maxDischargeDepth := 9) only [c1, i_im, e3, xbind, xlet, xpure, tw_sel, tg_0, tg_4, tg_9, tg_12, tg_13, tg_14, tg_15, tg_16, tg_17, tg_18, tg_19, tg_20, tg_21, tg_24, tr_1, tr_2, tr_3, tr_5, tr_6, tr_7, tr_8, tr_10, tr_11, tr_22, tr_23, tp_0, tp_4, tp_9, tp_12, tp_13, tp_14, tp_15, tp_16, tp_17, tp_18, tp_19, tp_20, tp_21, tp_24, va_up_self, va_up_ne, va_uu, i_ofNat, i_add, i_mul, Nat.add_zero, Nat.zero_add, reduceIte, if_true, if_false, Nat.reduceEqDiff, ne_eq, not_false_eq_true, Nat.reduceEqDiff, not_true_eq_false]
  · by_cases c2 : A 1 5 = Int32.ofNat 1
    · have c3 : ¬ (Int32.ofNat 1 = Int32.ofNat 0) := by decide
      simp (maxDischargeDepth := 9) only [c2, c3, i_im, e2, e4, xbind, xlet, xpure, tw_sel, tg_0, tg_4, tg_9, tg_12, tg_13, tg_14, tg_15, tg_16, tg_17, tg_18, tg_19, tg_20, tg_21, tg_24, tr_1, tr_2, tr_3, tr_5, tr_6, tr_7, tr_8, tr_10, tr_11, tr_22, tr_23, tp_0, tp_4, tp_9, tp_12, tp_13, tp_14, tp_15, tp_16, tp_17, tp_18, tp_19, tp_20, tp_21, tp_24, va_up_self, va_up_ne, va_uu, i_ofNat, i_add, i_mul, Nat.add_zero, Nat.zero_add, reduceIte, if_true, if_false, Nat.reduceEqDiff, ne_eq, not_false_eq_true, Nat.reduceEqDiff, not_true_eq_false]
    · simp (maxDischargeDepth := 9) only [c1, c2, e5, xbind, xlet, xpure, tw_sel, tg_0, tg_4, tg_9, tg_12, tg_13, tg_14, tg_15, tg_16, tg_17, tg_18, tg_19, tg_20, tg_21, tg_24, tr_1, tr_2, tr_3, tr_5, tr_6, tr_7, tr_8, tr_10, tr_11, tr_22, tr_23, tp_0, tp_4, tp_9, tp_12, tp_13, tp_14, tp_15, tp_16, tp_17, tp_18, tp_19, tp_20, tp_21, tp_24, va_up_self, va_up_ne, va_uu, i_ofNat, i_add, i_mul, Nat.add_zero, Nat.zero_add, reduceIte, if_true, if_false, Nat.reduceEqDiff, ne_eq, not_false_eq_true, Nat.reduceEqDiff, not_true_eq_false]
theorem t_removesPlan_p16 {k cnt : Nat} (hk : k < cnt) (hc : cnt ≤ 12) (N : Nat → Int32) (A0 : Nat → Nat → Int32) : ∀ (r i fu : Nat), i + r = 4 + 5 * (cnt - 1) → 4 + 5 * k ≤ i → r < fu →
    fX3_removesPlan_p16 fu m (Int32.ofNat i) Γ (tw m I (va_up A0 1 (fun j => if j = 3 then Int32.ofNat (cnt - 1) else if 4 + 5 * k ≤ j ∧ j < i then N (j + 5) else N j)) S h) n = some (.inl (), tw m I (va_up A0 1 (pRem N k cnt)) S h, 0, 0) := by
  intro r
  induction r with
  | zero =>
    intro i fu hi h4 hf
    obtain ⟨fu, rfl⟩ : ∃ g, fu = g + 1 := ⟨fu - 1, by omega⟩
    have c1 : Int32.ofNat (4 + 5 * (cnt - 1)) ≤ Int32.ofNat i := by rw [i_le (by omega) (by omega)]; omega
    have hi' : i = 4 + 5 * (cnt - 1) := by omega
    rw [fX3_removesPlan_p16]
    simp (maxDischargeDepth := 9) only [xbind, xlet, xpure, tw_sel, tg_0, tg_4, tg_9, tg_12, tg_13, tg_14, tg_15, tg_16, tg_17, tg_18, tg_19, tg_20, tg_21, tg_24, tr_1, tr_2, tr_3, tr_5, tr_6, tr_7, tr_8, tr_10, tr_11, tr_22, tr_23, tp_0, tp_4, tp_9, tp_12, tp_13, tp_14, tp_15, tp_16, tp_17, tp_18, tp_19, tp_20, tp_21, tp_24, va_up_self, va_up_ne, va_uu, i_ofNat, i_add, i_mul, Nat.add_zero, Nat.zero_add, reduceIte, if_true, if_false, Nat.reduceEqDiff, ne_eq, not_false_eq_true, Nat.reduceEqDiff, not_true_eq_false, tl_1 (show 3 < 592 by omega), c1]
    rw [hi']
    rfl
  | succ r ih =>
    intro i fu hi h4 hf
    obtain ⟨fu, rfl⟩ : ∃ g, fu = g + 1 := ⟨fu - 1, by omega⟩
    have c1 : ¬ Int32.ofNat (4 + 5 * (cnt - 1)) ≤ Int32.ofNat i := by rw [i_le (by omega) (by omega)]; omega
    have hi5 : i + 5 < 592 := by omega
    have hi0 : i < 592 := by omega
    rw [fX3_removesPlan_p16]
    simp (maxDischargeDepth := 9) only [xbind, xlet, xpure, tw_sel, tg_0, tg_4, tg_9, tg_12, tg_13, tg_14, tg_15, tg_16, tg_17, tg_18, tg_19, tg_20, tg_21, tg_24, tr_1, tr_2, tr_3, tr_5, tr_6, tr_7, tr_8, tr_10, tr_11, tr_22, tr_23, tp_0, tp_4, tp_9, tp_12, tp_13, tp_14, tp_15, tp_16, tp_17, tp_18, tp_19, tp_20, tp_21, tp_24, va_up_self, va_up_ne, va_uu, i_ofNat, i_add, i_mul, Nat.add_zero, Nat.zero_add, reduceIte, if_true, if_false, Nat.reduceEqDiff, ne_eq, not_false_eq_true, Nat.reduceEqDiff, not_true_eq_false, tl_1 (show 3 < 592 by omega), c1, tl_1 hi5, ts_1 hi0]
    have e := ih (i + 1) fu (by omega) (by omega) (by omega)
    have hf : (va_up (fun j => if j = 3 then Int32.ofNat (cnt - 1) else if 4 + 5 * k ≤ j ∧ j < i then N (j + 5) else N j) i (if 4 + 5 * k ≤ i + 5 ∧ i + 5 < i then N (i + 5 + 5) else N (i + 5))) = (fun j => if j = 3 then Int32.ofNat (cnt - 1) else if 4 + 5 * k ≤ j ∧ j < i + 1 then N (j + 5) else N j) := by
      funext j
      rw [va_ap]
      by_cases hj : j = i
      · subst hj
        rw [if_pos rfl, if_neg (by omega), if_neg (by omega), if_pos (by omega)]
      · rw [if_neg hj]
        by_cases h3 : j = 3
        · rw [if_pos h3, if_pos h3]
        · rw [if_neg h3, if_neg h3]
          by_cases hr : 4 + 5 * k ≤ j ∧ j < i
          · rw [if_pos hr, if_pos (by omega)]
          · rw [if_neg hr, if_neg (by omega)]
    simp only [hf, e]
theorem t_removesPlan {A : Nat → Nat → Int32} {k cnt : Nat} (hn : A 1 3 = Int32.ofNat cnt) (hk : k < cnt) (hc : cnt ≤ 12) : fX3_removesPlan m (Int32.ofNat k) Γ (tw m I A S h) n = some (.inl (), tw m I (va_up A 1 (pRem (A 1) k cnt)) S h, 0, 0) := by
  have e := t_removesPlan_p16 (Γ := Γ) (n := n) (m := m) (I := I) (S := S) (h := h) hk hc (A 1) A (4 + 5 * (cnt - 1) - (4 + 5 * k)) (4 + 5 * k) xFU (by omega) (by omega) (by unfold xFU; omega)
  have hf : va_up (A 1) 3 (Int32.ofNat (cnt - 1)) = (fun j => if j = 3 then Int32.ofNat (cnt - 1) else if 4 + 5 * k ≤ j ∧ j < 4 + 5 * k then A 1 (j + 5) else A 1 j) := by
    funext j
    rw [va_ap]
    by_cases h3 : j = 3
    · rw [if_pos h3, if_pos h3]
    · rw [if_neg h3, if_neg h3, if_neg (by omega)]
  rw [← hf] at e
  have hsub : Int32.ofNat cnt - Int32.ofNat 1 = Int32.ofNat (cnt - 1) := i_sub (by omega)
  simp (maxDischargeDepth := 9) only [fX3_removesPlan, xbind, xlet, xpure, tw_sel, tg_0, tg_4, tg_9, tg_12, tg_13, tg_14, tg_15, tg_16, tg_17, tg_18, tg_19, tg_20, tg_21, tg_24, tr_1, tr_2, tr_3, tr_5, tr_6, tr_7, tr_8, tr_10, tr_11, tr_22, tr_23, tp_0, tp_4, tp_9, tp_12, tp_13, tp_14, tp_15, tp_16, tp_17, tp_18, tp_19, tp_20, tp_21, tp_24, va_up_self, va_up_ne, va_uu, i_ofNat, i_add, i_mul, Nat.add_zero, Nat.zero_add, reduceIte, if_true, if_false, Nat.reduceEqDiff, ne_eq, not_false_eq_true, Nat.reduceEqDiff, not_true_eq_false, tl_1 (show 3 < 592 by omega), ts_1 (show 3 < 592 by omega), hn, hsub, e]
end TW4
