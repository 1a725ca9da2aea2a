/-! part 474: the twin: load, whole -/
section TP15
variable {Γ : Nat → Option Nat} {m : Nat} {h : xH} {len : Nat}
theorem t_load0 {n : Nat} {I : Nat → Int32} {A : Nat → Nat → Int32} {Z : Nat → Int64} {e : Nat × Nat} (hs : tStr Γ m h) (hl : I 12 = Int32.ofNat len) (h9 : len ≤ 900) (hg : gParse (A 8) len (len + 1) (gBl (A 8) len 0) (pZero (A 1) 592) (fun _ => []) = .inl e) :
    ∃ J B, fX3_load m Γ (tw m I A Z h) n = some (.inl (Int32.ofNat 0), tw m J B Z h, 0, 0) ∧ e.1 ≤ len ∧ J 0 = Int32.ofNat 1 ∧ J 4 = I 4 ∧ J 12 = Int32.ofNat 0 ∧ J 18 = Int32.ofNat e.1 ∧ J 19 = Int32.ofNat e.2 ∧ J 24 = I 24 ∧ (∀ j, j < 592 → B 1 j = A 1 j) ∧ ∀ k, k ≠ 1 → k ≠ 2 → k ≠ 6 → B k = A k := by
  obtain ⟨J, B, e1, r1, r2, o1, j0, j4, j12, o2⟩ := t_load_head (Γ := Γ) (n := n) (m := m) (h := h) (A := A) (Z := Z) hs hl h9
  rw [hg] at o2
  obtain ⟨o2, o3, o4⟩ := o2
  have d1 : ¬ Int32.ofNat 1 = Int32.ofNat 0 := by decide
  have g1 : ¬ (va_up (va_up J 18 (Int32.ofNat e.1)) 19 (Int32.ofNat e.2)) 16 = -Int32.ofNat 1 := by
    rw [va_up_ne _ _ (by decide), va_up_ne _ _ (by decide)]
    exact tEr.fail (I := J) (J := J) (e := e) ⟨o3, o4, fun _ _ _ _ _ _ => rfl⟩ (by omega)
  have e2 := t_hasFailed1 (Γ := Γ) (n := n) (m := m) (A := B) (S := Z) (h := h) g1
  have e3 := t_throws1 (Γ := Γ) (n := n) (m := m) (I := va_up (va_up J 18 (Int32.ofNat e.1)) 19 (Int32.ofNat e.2)) (A := B) (S := Z) (h := h) (Int32.ofNat 1)
  have e4 := t_takesBack (Γ := Γ) (n := n) (m := m) (I := va_up (va_up (va_up J 18 (Int32.ofNat e.1)) 19 (Int32.ofNat e.2)) 0 (Int32.ofNat 1)) (A := B) (S := Z) (h := h)
  refine ⟨va_up (va_up (va_up (va_up J 18 (Int32.ofNat e.1)) 19 (Int32.ofNat e.2)) 0 (Int32.ofNat 1)) 4 (I 4), va_up B 1 (pCpy (B 2) (B 1) 0 0 592), ?_, o2, by rw [va_up_ne _ _ (by decide), va_up_self], va_up_self _ _ _, ?_, ?_, ?_, ?_, fun j hj => ?_, fun k a b c => by rw [va_up_ne _ _ a]; exact r1 k a b c⟩
  · rw [e1]
    simp (maxDischargeDepth := 9) only [fX3_load_p75, xbind, xlet, xpure, tw_sel, tg_0, tg_4, tg_9, tg_12, tg_13, tg_14, tg_15, tg_16, tg_17, tg_18, tg_19, tg_20, tg_21, tg_24, tr_1, tr_2, tr_3, tr_5, tr_6, tr_7, tr_8, tr_10, tr_11, tr_22, tr_23, tp_0, tp_4, tp_9, tp_12, tp_13, tp_14, tp_15, tp_16, tp_17, tp_18, tp_19, tp_20, tp_21, tp_24, va_up_self, va_up_ne, va_uu, i_ofNat, i_add, i_mul, Nat.add_zero, Nat.zero_add, reduceIte, if_true, if_false, Nat.reduceEqDiff, ne_eq, not_false_eq_true, Nat.reduceEqDiff, not_true_eq_false, o3, o4, e2, e3, d1, e4]
  · rw [va_up_ne _ _ (by decide), va_up_ne _ _ (by decide), va_up_ne _ _ (by decide), va_up_ne _ _ (by decide)]; exact j12
  · rw [va_up_ne _ _ (by decide), va_up_ne _ _ (by decide), va_up_ne _ _ (by decide), va_up_self]
  · rw [va_up_ne _ _ (by decide), va_up_ne _ _ (by decide), va_up_self]
  · rw [va_up_ne _ _ (by decide), va_up_ne _ _ (by decide), va_up_ne _ _ (by decide), va_up_ne _ _ (by decide)]; exact o1 24 (by decide) (by decide) (by decide) (by decide) (by decide) (by decide) (by decide) (by decide) (by decide) (by decide)
  · rw [va_up_self, r2]
    unfold pCpy
    rw [if_pos (by omega), if_pos (by omega)]
    congr 1
    omega
theorem t_load1 {n p : Nat} {I : Nat → Int32} {A : Nat → Nat → Int32} {Z : Nat → Int64} {N : Nat → Int32} {TS : gTs} (hs : tStr Γ m h) (hl : I 12 = Int32.ofNat len) (h9 : len ≤ 900) (hg : gParse (A 8) len (len + 1) (gBl (A 8) len 0) (pZero (A 1) 592) (fun _ => []) = .inr (p, N, TS)) :
    ∃ J B Z', fX3_load m Γ (tw m I A Z h) n = some (.inl (N 0), tw m J B Z' h, 0, 0) ∧ rdN N TS ∧ J 0 = Int32.ofNat 0 ∧ J 4 = Int32.ofNat 0 ∧ J 12 = Int32.ofNat 0 ∧ J 18 = -Int32.ofNat 1 ∧ J 19 = Int32.ofNat 0 ∧ J 24 = I 24 ∧ B 1 = pOpenF TS 0 (nn (N 0)) N ∧ (∀ s, s < nn (N 0) → okF (B 5) s (TS s)) ∧ ∀ k, k ≠ 1 → k ≠ 2 → k ≠ 5 → k ≠ 6 → B k = A k := by
  obtain ⟨J, B, e1, r1, r2, o1, j0, j4, j12, o2⟩ := t_load_head (Γ := Γ) (n := n) (m := m) (h := h) (A := A) (Z := Z) hs hl h9
  rw [hg] at o2
  obtain ⟨o3, o4, hr, rfl, hF⟩ := o2
  have g1 : (va_up (va_up J 18 (-Int32.ofNat 1)) 19 (Int32.ofNat 0)) 16 = -Int32.ofNat 1 := by
    rw [va_up_ne _ _ (by decide), va_up_ne _ _ (by decide)]
    exact o3
  have e2 := t_hasFailed0 (Γ := Γ) (n := n) (m := m) (A := B) (S := Z) (h := h) g1
  have e3 := t_throws0 (Γ := Γ) (n := n) (m := m) (I := va_up (va_up J 18 (-Int32.ofNat 1)) 19 (Int32.ofNat 0)) (A := B) (S := Z) (h := h) (Int32.ofNat 1)
  have e4 := t_load_p116 (Γ := Γ) (n := n) (m := m) (I := va_up (va_up J 18 (-Int32.ofNat 1)) 19 (Int32.ofNat 0)) (A := B) (Z := Z) (h := h) 5604 0 xFU (by omega) (by unfold xFU; omega)
  rw [pMix_0, va_id] at e4
  have a4 := hr.1.2.1
  have okf : ∀ t, t < nn (B 1 0) → okF (pMix (B 5) (B 6) 5604) t (TS t) := by
    intro t ht
    have hf := hF t ht
    have hw := (hr.2.2.2 t ht).1
    have hw2 := hw.2
    refine ⟨?_, hw.2, pEnc_congr _ _ hf.2 (fun j a b => ?_), ?_⟩
    · unfold pMix
      rw [if_pos (by omega)]
      exact hf.1
    · unfold pMix
      rw [if_pos (by omega)]
    · rcases hw.1 with hw | hw
      · exact Or.inl hw
      · exact Or.inr (hw.1 0)
  obtain ⟨K, Z2, e5, o5⟩ := t_load_p143 (Γ := Γ) (n := n) (m := m) (h := h) TS (nn (B 1 0)) 0 xFU (va_up (va_up J 18 (-Int32.ofNat 1)) 19 (Int32.ofNat 0)) (va_up B 5 (pMix (B 5) (B 6) 5604)) Z (by rw [va_up_ne _ _ (by decide)]; omega) (by unfold xFU; omega) (by rw [va_up_ne _ _ (by decide)]; exact hr.1) (by rw [va_up_ne _ _ (by decide), va_up_self]; exact okf)
  rw [va_up_ne _ _ (show 1 ≠ 5 by decide)] at e5
  refine ⟨K, va_up (va_up B 5 (pMix (B 5) (B 6) 5604)) 1 (pOpenF TS 0 (nn (B 1 0)) (B 1)), Z2, ?_, hr, ?_, ?_, ?_, ?_, ?_, ?_, va_up_self _ _ _, ?_, fun k a b c d => by rw [va_up_ne _ _ a, va_up_ne _ _ c]; exact r1 k a b d⟩
  · rw [e1]
    simp (maxDischargeDepth := 9) only [fX3_load_p75, xbind, xlet, xpure, tw_sel, tg_0, tg_4, tg_9, tg_12, tg_13, tg_14, tg_15, tg_16, tg_17, tg_18, tg_19, tg_20, tg_21, tg_24, tr_1, tr_2, tr_3, tr_5, tr_6, tr_7, tr_8, tr_10, tr_11, tr_22, tr_23, tp_0, tp_4, tp_9, tp_12, tp_13, tp_14, tp_15, tp_16, tp_17, tp_18, tp_19, tp_20, tp_21, tp_24, va_up_self, va_up_ne, va_uu, i_ofNat, i_add, i_mul, Nat.add_zero, Nat.zero_add, reduceIte, if_true, if_false, Nat.reduceEqDiff, ne_eq, not_false_eq_true, Nat.reduceEqDiff, not_true_eq_false, o3, o4, e2, e3, e4, e5]
  · rw [o5 0 (by decide), va_up_ne _ _ (by decide), va_up_ne _ _ (by decide)]; exact j0
  · rw [o5 4 (by decide), va_up_ne _ _ (by decide), va_up_ne _ _ (by decide)]; exact j4
  · rw [o5 12 (by decide), va_up_ne _ _ (by decide), va_up_ne _ _ (by decide)]; exact j12
  · rw [o5 18 (by decide), va_up_ne _ _ (by decide), va_up_self]
  · rw [o5 19 (by decide), va_up_self]
  · rw [o5 24 (by decide), va_up_ne _ _ (by decide), va_up_ne _ _ (by decide)]; exact o1 24 (by decide) (by decide) (by decide) (by decide) (by decide) (by decide) (by decide) (by decide) (by decide) (by decide)
  · intro s hs
    rw [va_up_ne _ _ (by decide), va_up_self]
    exact okf s hs
end TP15
