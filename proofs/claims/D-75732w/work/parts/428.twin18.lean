/-! part 428: the twin: forecasts -/
theorem i_div {a b : Nat} (ha : a < 2147483648) (hb : b < 2147483648) : Int32.ofNat a / Int32.ofNat b = Int32.ofNat (a / b) := by
  have hq : a / b < 2147483648 := Nat.lt_of_le_of_lt (Nat.div_le_self a b) ha
  have e : (a : Int).tdiv (b : Int) = ((a / b : Nat) : Int) := (Int.ofNat_tdiv a b).symm
  rw [← Int32.toInt_inj, Int32.toInt_div, i_toInt ha, i_toInt hb, i_toInt hq, e]
  generalize a / b = q at hq
  exact Int.bmod_eq_of_le (by omega) (by omega)
theorem i_lt1 {z a : Nat} (hz : z < 2147483648) (ha : a < 2147483648) : (Int32.ofNat z + -Int32.ofNat 1 < Int32.ofNat a) ↔ z ≤ a := by
  rcases z with _ | z
  · constructor
    · intro; omega
    · intro _
      rw [Int32.lt_iff_toInt_lt, i_toInt ha]
      have : (Int32.ofNat 0 + -Int32.ofNat 1).toInt = -1 := by decide
      rw [this]
      omega
  · rw [i_addneg (by omega), Nat.add_sub_cancel, i_lt (by omega) ha]
    omega
/-- k ages from x down give up animals until left are taken -/
def pTO (s : Nat) : Nat → Nat → (Nat → Int32) → Int32 → (Nat → Int32) × Int32
  | 0, _, N, left => (N, left)
  | k + 1, x, N, left => pTO s k (x - 1) (va_up N (zI s (39 + x)) (N (zI s (39 + x)) - imin left (N (zI s (39 + x))))) (left - imin left (N (zI s (39 + x))))
theorem pTO_ne (s : Nat) : ∀ (k x : Nat) (N : Nat → Int32) (left : Int32) (j : Nat), x ≤ 12 → (∀ a, 39 ≤ a → a < 52 → j ≠ zI s a) → (pTO s k x N left).1 j = N j := by
  intro k
  induction k with
  | zero => intro x N left j hx h; rfl
  | succ k ih =>
    intro x N left j hx h
    unfold pTO
    rw [ih _ _ _ _ (by omega) h, va_up_ne _ _ (h _ (by omega) (by omega))]
/-- so many adults can be taken in each of r years -/
def pWrk (s o a : Nat) (num least : Int32) : Nat → (Nat → Int32) → Bool
  | 0, _ => true
  | r + 1, N => if (pTO s (o + 1 - a) o N num).2 = Int32.ofNat 0 ∧ ¬ pTot (pAges (pTO s (o + 1 - a) o N num).1 s o) s o < least then pWrk s o a num least r (pAges (pTO s (o + 1 - a) o N num).1 s o) else false
def pBel (s o : Nat) (least : Int32) : Nat → Nat → (Nat → Int32) → Option Nat
  | 0, _, _ => none
  | r + 1, x, N => if pTot N s o < least then some x else pBel s o least r (x + 1) (pAges N s o)
section TW19
variable {Γ : Nat → Option Nat} {m n : Nat} {I : Nat → Int32} {S : Nat → Int64} {h : xH} {s o a : Nat}
theorem t_takesOldest_p9 (hs : s < 4) (ho' : o ≤ 12) (ha' : a ≤ o) : ∀ (k z fu : Nat) (A : Nat → Nat → Int32) (left : Int32), A 1 (zI s 2) = Int32.ofNat a → z = a + k → z ≤ o + 1 → k < fu →
    fX3_takesOldest_p9 fu m (Int32.ofNat s) left (Int32.ofNat z + -Int32.ofNat 1) Γ (tw m I A S h) n = some (.inl (if (pTO s k (z - 1) (A 1) left).2 = Int32.ofNat 0 then Int32.ofNat 1 else Int32.ofNat 0), tw m I (va_up A 1 (pTO s k (z - 1) (A 1) left).1) S h, 0, 0) := by
  intro k
  induction k with
  | zero =>
    intro z fu A left ha hz hzo hf
    obtain ⟨fu, rfl⟩ : ∃ g, fu = g + 1 := ⟨fu - 1, by omega⟩
    have c1 : Int32.ofNat z + -Int32.ofNat 1 < Int32.ofNat a := by rw [i_lt1 (by omega) (by omega)]; omega
    have e1 := t_of (Γ := Γ) (n := n) (m := m) (I := I) (A := A) (S := S) (h := h) hs (show 2 < 132 by omega)
    rw [ha] at e1
    rw [fX3_takesOldest_p9]
    by_cases c2 : left = Int32.ofNat 0
    · simp (maxDischargeDepth := 9) only [xbind, xlet, xpure, tw_sel, tg_0, tg_4, tg_9, tg_12, tg_13, tg_14, tg_15, tg_16, tg_17, tg_18, tg_19, tg_20, tg_21, tg_24, tr_1, tr_2, tr_3, tr_5, tr_6, tr_7, tr_8, tr_10, tr_11, tr_22, tr_23, tp_0, tp_4, tp_9, tp_12, tp_13, tp_14, tp_15, tp_16, tp_17, tp_18, tp_19, tp_20, tp_21, tp_24, va_up_self, va_up_ne, va_uu, i_ofNat, i_add, i_mul, Nat.add_zero, Nat.zero_add, reduceIte, if_true, if_false, Nat.reduceEqDiff, ne_eq, not_false_eq_true, Nat.reduceEqDiff, not_true_eq_false, e1, c1, pTO, eq_true c2, va_id]
    · simp (maxDischargeDepth := 9) only [xbind, xlet, xpure, tw_sel, tg_0, tg_4, tg_9, tg_12, tg_13, tg_14, tg_15, tg_16, tg_17, tg_18, tg_19, tg_20, tg_21, tg_24, tr_1, tr_2, tr_3, tr_5, tr_6, tr_7, tr_8, tr_10, tr_11, tr_22, tr_23, tp_0, tp_4, tp_9, tp_12, tp_13, tp_14, tp_15, tp_16, tp_17, tp_18, tp_19, tp_20, tp_21, tp_24, va_up_self, va_up_ne, va_uu, i_ofNat, i_add, i_mul, Nat.add_zero, Nat.zero_add, reduceIte, if_true, if_false, Nat.reduceEqDiff, ne_eq, not_false_eq_true, Nat.reduceEqDiff, not_true_eq_false, e1, c1, pTO, c2, va_id]
  | succ k ih =>
    intro z fu A left ha hz hzo hf
    obtain ⟨fu, rfl⟩ : ∃ g, fu = g + 1 := ⟨fu - 1, by omega⟩
    have c1 : ¬ Int32.ofNat z + -Int32.ofNat 1 < Int32.ofNat a := by rw [i_lt1 (by omega) (by omega)]; omega
    have e1 := t_of (Γ := Γ) (n := n) (m := m) (I := I) (A := A) (S := S) (h := h) hs (show 2 < 132 by omega)
    rw [ha] at e1
    have m1 : Int32.ofNat z + -Int32.ofNat 1 = Int32.ofNat (z - 1) := i_addneg (by omega)
    have e2 := t_cohortOf (Γ := Γ) (n := n) (m := m) (I := I) (A := A) (S := S) (h := h) hs (show z - 1 < 93 by omega)
    have e3 := ih (z - 1) fu (va_up A 1 (va_up (A 1) (zI s (39 + (z - 1))) (A 1 (zI s (39 + (z - 1))) - imin left (A 1 (zI s (39 + (z - 1))))))) (left - imin left (A 1 (zI s (39 + (z - 1))))) (by rw [va_up_self, va_up_ne _ _ (zI_ne (by omega))]; exact ha) (by omega) (by omega) (by omega)
    have h1 := zI_lt hs (show 39 + (z - 1) < 132 by omega)
    rw [m1] at c1 ⊢
    rw [fX3_takesOldest_p9]
    simp (maxDischargeDepth := 9) only [xbind, xlet, xpure, tw_sel, tg_0, tg_4, tg_9, tg_12, tg_13, tg_14, tg_15, tg_16, tg_17, tg_18, tg_19, tg_20, tg_21, tg_24, tr_1, tr_2, tr_3, tr_5, tr_6, tr_7, tr_8, tr_10, tr_11, tr_22, tr_23, tp_0, tp_4, tp_9, tp_12, tp_13, tp_14, tp_15, tp_16, tp_17, tp_18, tp_19, tp_20, tp_21, tp_24, va_up_self, va_up_ne, va_uu, i_ofNat, i_add, i_mul, Nat.add_zero, Nat.zero_add, reduceIte, if_true, if_false, Nat.reduceEqDiff, ne_eq, not_false_eq_true, Nat.reduceEqDiff, not_true_eq_false] at e3
    simp (maxDischargeDepth := 9) only [xbind, xlet, xpure, tw_sel, tg_0, tg_4, tg_9, tg_12, tg_13, tg_14, tg_15, tg_16, tg_17, tg_18, tg_19, tg_20, tg_21, tg_24, tr_1, tr_2, tr_3, tr_5, tr_6, tr_7, tr_8, tr_10, tr_11, tr_22, tr_23, tp_0, tp_4, tp_9, tp_12, tp_13, tp_14, tp_15, tp_16, tp_17, tp_18, tp_19, tp_20, tp_21, tp_24, va_up_self, va_up_ne, va_uu, i_ofNat, i_add, i_mul, Nat.add_zero, Nat.zero_add, reduceIte, if_true, if_false, Nat.reduceEqDiff, ne_eq, not_false_eq_true, Nat.reduceEqDiff, not_true_eq_false, e1, c1, e2, i_im, t_at2, tl_1 h1, ts_1 h1, e3, pTO]
    rfl
theorem t_takesOldest {A : Nat → Nat → Int32} (hs : s < 4) (ho : A 1 (zI s 1) = Int32.ofNat o) (ho' : o ≤ 12) (ha : A 1 (zI s 2) = Int32.ofNat a) (ha' : a ≤ o) (num : Int32) : fX3_takesOldest m (Int32.ofNat s) num Γ (tw m I A S h) n = some (.inl (if (pTO s (o + 1 - a) o (A 1) num).2 = Int32.ofNat 0 then Int32.ofNat 1 else Int32.ofNat 0), tw m I (va_up A 1 (pTO s (o + 1 - a) o (A 1) num).1) S h, 0, 0) := by
  have e1 := t_oldest (Γ := Γ) (n := n) (m := m) (I := I) (A := A) (S := S) (h := h) hs
  rw [ho] at e1
  have e2 := t_takesOldest_p9 (Γ := Γ) (n := n) (m := m) (I := I) (S := S) (h := h) hs ho' ha' (o + 1 - a) (o + 1) xFU A num ha (by omega) (by omega) (by unfold xFU; omega)
  have m1 : Int32.ofNat (o + 1) + -Int32.ofNat 1 = Int32.ofNat o := by rw [i_addneg (by omega)]; rfl
  rw [m1, Nat.add_sub_cancel] at e2
  simp (maxDischargeDepth := 9) only [fX3_takesOldest, xbind, xlet, xpure, tw_sel, tg_0, tg_4, tg_9, tg_12, tg_13, tg_14, tg_15, tg_16, tg_17, tg_18, tg_19, tg_20, tg_21, tg_24, tr_1, tr_2, tr_3, tr_5, tr_6, tr_7, tr_8, tr_10, tr_11, tr_22, tr_23, tp_0, tp_4, tp_9, tp_12, tp_13, tp_14, tp_15, tp_16, tp_17, tp_18, tp_19, tp_20, tp_21, tp_24, va_up_self, va_up_ne, va_uu, i_ofNat, i_add, i_mul, Nat.add_zero, Nat.zero_add, reduceIte, if_true, if_false, Nat.reduceEqDiff, ne_eq, not_false_eq_true, Nat.reduceEqDiff, not_true_eq_false, e1, e2]
theorem t_works_p10 (hs : s < 4) (ho' : o ≤ 12) (ha' : a ≤ o) (num least : Int32) {y : Nat} (hy : y ≤ 30) (N0 : Nat → Int32) : ∀ (r x fu : Nat) (A : Nat → Nat → Int32), A 1 (zI s 1) = Int32.ofNat o → A 1 (zI s 2) = Int32.ofNat a → A 2 = pCpy N0 (A 2) 0 0 592 → (∀ j, 592 ≤ j → A 1 j = N0 j) → x + r = y → r < fu →
    fX3_works_p10 fu m (Int32.ofNat s) num (Int32.ofNat y) least (Int32.ofNat 1) (Int32.ofNat x) Γ (tw m I A S h) n = some (.inl (b2i (pWrk s o a num least r (A 1))), tw m I (va_up A 1 N0) S h, 0, 0) := by
  have hback : ∀ (B : Nat → Nat → Int32), B 2 = pCpy N0 (B 2) 0 0 592 → (∀ j, 592 ≤ j → B 1 j = N0 j) → pCpy (B 2) (B 1) 0 0 592 = N0 := by
    intro B h1 h2
    rw [h1]
    exact pCpy_back h2
  intro r
  induction r with
  | zero =>
    intro x fu A ho ha h2 hj hx hf
    obtain ⟨fu, rfl⟩ : ∃ g, fu = g + 1 := ⟨fu - 1, by omega⟩
    have c1 : Int32.ofNat y ≤ Int32.ofNat x := by rw [i_le (by omega) (by omega)]; omega
    have e1 := t_takesBack (Γ := Γ) (n := n) (m := m) (I := I) (A := A) (S := S) (h := h)
    rw [hback A h2 hj] at e1
    rw [fX3_works_p10]
    simp (maxDischargeDepth := 9) only [xbind, xlet, xpure, tw_sel, tg_0, tg_4, tg_9, tg_12, tg_13, tg_14, tg_15, tg_16, tg_17, tg_18, tg_19, tg_20, tg_21, tg_24, tr_1, tr_2, tr_3, tr_5, tr_6, tr_7, tr_8, tr_10, tr_11, tr_22, tr_23, tp_0, tp_4, tp_9, tp_12, tp_13, tp_14, tp_15, tp_16, tp_17, tp_18, tp_19, tp_20, tp_21, tp_24, va_up_self, va_up_ne, va_uu, i_ofNat, i_add, i_mul, Nat.add_zero, Nat.zero_add, reduceIte, if_true, if_false, Nat.reduceEqDiff, ne_eq, not_false_eq_true, Nat.reduceEqDiff, not_true_eq_false, c1, fX3_works_p62, e1, x_ret1, pWrk, b2i_t]
  | succ r ih =>
    intro x fu A ho ha h2 hj hx hf
    obtain ⟨fu, rfl⟩ : ∃ g, fu = g + 1 := ⟨fu - 1, by omega⟩
    have c1 : ¬ Int32.ofNat y ≤ Int32.ofNat x := by rw [i_le (by omega) (by omega)]; omega
    have e1 := t_takesOldest (Γ := Γ) (n := n) (m := m) (I := I) (A := A) (S := S) (h := h) hs ho ho' ha ha' num
    have k1 : ∀ j, (∀ b, 39 ≤ b → b < 52 → j ≠ zI s b) → (pTO s (o + 1 - a) o (A 1) num).1 j = A 1 j := fun j hb => pTO_ne s _ _ _ _ _ ho' hb
    have hoT : (pTO s (o + 1 - a) o (A 1) num).1 (zI s 1) = Int32.ofNat o := by rw [k1 _ (fun b h1 h2 => zI_ne (by omega))]; exact ho
    have haT : (pTO s (o + 1 - a) o (A 1) num).1 (zI s 2) = Int32.ofNat a := by rw [k1 _ (fun b h1 h2 => zI_ne (by omega))]; exact ha
    have e2 := t_ages (Γ := Γ) (n := n) (m := m) (I := I) (A := va_up A 1 (pTO s (o + 1 - a) o (A 1) num).1) (S := S) (h := h) hs (by rw [va_up_self]; exact hoT) ho'
    have k2 : ∀ j, (∀ b, 3 ≤ b → b < 52 → j ≠ zI s b) → pAges (pTO s (o + 1 - a) o (A 1) num).1 s o j = A 1 j := fun j hb => (pAges_ne ho' hb).trans (k1 j (fun b h1 h2 => hb b (by omega) h2))
    have e3 := t_totalOf (Γ := Γ) (n := n) (m := m) (I := I) (A := va_up A 1 (pAges (pTO s (o + 1 - a) o (A 1) num).1 s o)) (S := S) (h := h) hs (by rw [va_up_self, k2 _ (fun b h1 h2 => zI_ne (by omega))]; exact ho) ho'
    have hx0 : ∀ (B : Nat → Nat → Int32) (fu2 : Nat), 0 < fu2 → B 2 = pCpy N0 (B 2) 0 0 592 → (∀ j, 592 ≤ j → B 1 j = N0 j) → fX3_works_p10 fu2 m (Int32.ofNat s) num (Int32.ofNat y) least (Int32.ofNat 0) (Int32.ofNat (x + 1)) Γ (tw m I B S h) n = some (.inl (Int32.ofNat 0), tw m I (va_up B 1 N0) S h, 0, 0) := by
      intro B fu2 hf2 q2 qj
      obtain ⟨fu2, rfl⟩ : ∃ g, fu2 = g + 1 := ⟨fu2 - 1, by omega⟩
      have eb := t_takesBack (Γ := Γ) (n := n) (m := m) (I := I) (A := B) (S := S) (h := h)
      rw [hback B q2 qj] at eb
      rw [fX3_works_p10]
      by_cases d1 : Int32.ofNat y ≤ Int32.ofNat (x + 1)
      · simp (maxDischargeDepth := 9) only [xbind, xlet, xpure, tw_sel, tg_0, tg_4, tg_9, tg_12, tg_13, tg_14, tg_15, tg_16, tg_17, tg_18, tg_19, tg_20, tg_21, tg_24, tr_1, tr_2, tr_3, tr_5, tr_6, tr_7, tr_8, tr_10, tr_11, tr_22, tr_23, tp_0, tp_4, tp_9, tp_12, tp_13, tp_14, tp_15, tp_16, tp_17, tp_18, tp_19, tp_20, tp_21, tp_24, va_up_self, va_up_ne, va_uu, i_ofNat, i_add, i_mul, Nat.add_zero, Nat.zero_add, reduceIte, if_true, if_false, Nat.reduceEqDiff, ne_eq, not_false_eq_true, Nat.reduceEqDiff, not_true_eq_false, d1, fX3_works_p62, eb, x_ret0]
      · simp (maxDischargeDepth := 9) only [xbind, xlet, xpure, tw_sel, tg_0, tg_4, tg_9, tg_12, tg_13, tg_14, tg_15, tg_16, tg_17, tg_18, tg_19, tg_20, tg_21, tg_24, tr_1, tr_2, tr_3, tr_5, tr_6, tr_7, tr_8, tr_10, tr_11, tr_22, tr_23, tp_0, tp_4, tp_9, tp_12, tp_13, tp_14, tp_15, tp_16, tp_17, tp_18, tp_19, tp_20, tp_21, tp_24, va_up_self, va_up_ne, va_uu, i_ofNat, i_add, i_mul, Nat.add_zero, Nat.zero_add, reduceIte, if_true, if_false, Nat.reduceEqDiff, ne_eq, not_false_eq_true, Nat.reduceEqDiff, not_true_eq_false, d1, fX3_works_p62, eb, x_ret0]
    have hq2 : (va_up A 1 (pAges (pTO s (o + 1 - a) o (A 1) num).1 s o)) 2 = pCpy N0 ((va_up A 1 (pAges (pTO s (o + 1 - a) o (A 1) num).1 s o)) 2) 0 0 592 := by
      rw [va_up_ne _ _ (by omega)]; exact h2
    have hqj : ∀ j, 592 ≤ j → (va_up A 1 (pAges (pTO s (o + 1 - a) o (A 1) num).1 s o)) 1 j = N0 j := by
      intro j h592
      rw [va_up_self, k2 j (fun b h1 h2 => by unfold zI; omega)]
      exact hj j h592
    have e0 := hx0 (va_up A 1 (pAges (pTO s (o + 1 - a) o (A 1) num).1 s o)) fu (by omega) hq2 hqj
    have e4 := ih (x + 1) fu (va_up A 1 (pAges (pTO s (o + 1 - a) o (A 1) num).1 s o)) (by rw [va_up_self, k2 _ (fun b h1 h2 => zI_ne (by omega))]; exact ho) (by rw [va_up_self, k2 _ (fun b h1 h2 => zI_ne (by omega))]; exact ha) hq2 hqj (by omega) (by omega)
    simp (maxDischargeDepth := 9) only [xbind, xlet, xpure, tw_sel, tg_0, tg_4, tg_9, tg_12, tg_13, tg_14, tg_15, tg_16, tg_17, tg_18, tg_19, tg_20, tg_21, tg_24, tr_1, tr_2, tr_3, tr_5, tr_6, tr_7, tr_8, tr_10, tr_11, tr_22, tr_23, tp_0, tp_4, tp_9, tp_12, tp_13, tp_14, tp_15, tp_16, tp_17, tp_18, tp_19, tp_20, tp_21, tp_24, va_up_self, va_up_ne, va_uu, i_ofNat, i_add, i_mul, Nat.add_zero, Nat.zero_add, reduceIte, if_true, if_false, Nat.reduceEqDiff, ne_eq, not_false_eq_true, Nat.reduceEqDiff, not_true_eq_false] at e0 e2 e3 e4
    rw [fX3_works_p10]
    by_cases c2 : (pTO s (o + 1 - a) o (A 1) num).2 = Int32.ofNat 0
    · rw [if_pos c2] at e1
      by_cases c3 : pTot (pAges (pTO s (o + 1 - a) o (A 1) num).1 s o) s o < least
      · have hp : pWrk s o a num least (r + 1) (A 1) = false := by
          unfold pWrk
          exact if_neg (fun q => q.2 c3)
        simp (maxDischargeDepth := 9) only [xbind, xlet, xpure, tw_sel, tg_0, tg_4, tg_9, tg_12, tg_13, tg_14, tg_15, tg_16, tg_17, tg_18, tg_19, tg_20, tg_21, tg_24, tr_1, tr_2, tr_3, tr_5, tr_6, tr_7, tr_8, tr_10, tr_11, tr_22, tr_23, tp_0, tp_4, tp_9, tp_12, tp_13, tp_14, tp_15, tp_16, tp_17, tp_18, tp_19, tp_20, tp_21, tp_24, va_up_self, va_up_ne, va_uu, i_ofNat, i_add, i_mul, Nat.add_zero, Nat.zero_add, reduceIte, if_true, if_false, Nat.reduceEqDiff, ne_eq, not_false_eq_true, Nat.reduceEqDiff, not_true_eq_false, hp, c1, i_10, e1, e2, e3, c3, fX3_works_p53, fX3_works_p54, e0, b2i_f]
      · have hp : pWrk s o a num least (r + 1) (A 1) = pWrk s o a num least r (pAges (pTO s (o + 1 - a) o (A 1) num).1 s o) := by
          conv => lhs; unfold pWrk
          exact if_pos ⟨c2, c3⟩
        simp (maxDischargeDepth := 9) only [xbind, xlet, xpure, tw_sel, tg_0, tg_4, tg_9, tg_12, tg_13, tg_14, tg_15, tg_16, tg_17, tg_18, tg_19, tg_20, tg_21, tg_24, tr_1, tr_2, tr_3, tr_5, tr_6, tr_7, tr_8, tr_10, tr_11, tr_22, tr_23, tp_0, tp_4, tp_9, tp_12, tp_13, tp_14, tp_15, tp_16, tp_17, tp_18, tp_19, tp_20, tp_21, tp_24, va_up_self, va_up_ne, va_uu, i_ofNat, i_add, i_mul, Nat.add_zero, Nat.zero_add, reduceIte, if_true, if_false, Nat.reduceEqDiff, ne_eq, not_false_eq_true, Nat.reduceEqDiff, not_true_eq_false, hp, c1, i_10, e1, e2, e3, c3, fX3_works_p53, fX3_works_p54, e4]
    · rw [if_neg c2] at e1
      have hp : pWrk s o a num least (r + 1) (A 1) = false := by
        unfold pWrk
        exact if_neg (fun q => c2 q.1)
      simp (maxDischargeDepth := 9) only [xbind, xlet, xpure, tw_sel, tg_0, tg_4, tg_9, tg_12, tg_13, tg_14, tg_15, tg_16, tg_17, tg_18, tg_19, tg_20, tg_21, tg_24, tr_1, tr_2, tr_3, tr_5, tr_6, tr_7, tr_8, tr_10, tr_11, tr_22, tr_23, tp_0, tp_4, tp_9, tp_12, tp_13, tp_14, tp_15, tp_16, tp_17, tp_18, tp_19, tp_20, tp_21, tp_24, va_up_self, va_up_ne, va_uu, i_ofNat, i_add, i_mul, Nat.add_zero, Nat.zero_add, reduceIte, if_true, if_false, Nat.reduceEqDiff, ne_eq, not_false_eq_true, Nat.reduceEqDiff, not_true_eq_false, hp, c1, i_10, e1, e2, fX3_works_p53, fX3_works_p54, e0, b2i_f]
theorem t_works {A : Nat → Nat → Int32} (hs : s < 4) (ho : A 1 (zI s 1) = Int32.ofNat o) (ho' : o ≤ 12) (ha : A 1 (zI s 2) = Int32.ofNat a) (ha' : a ≤ o) (num least : Int32) {y : Nat} (hy : y ≤ 30) : fX3_works m (Int32.ofNat s) num (Int32.ofNat y) least Γ (tw m I A S h) n = some (.inl (b2i (pWrk s o a num least y (A 1))), tw m I (va_up A 2 (pCpy (A 1) (A 2) 0 0 592)) S h, 0, 0) := by
  have e1 := t_putsAside (Γ := Γ) (n := n) (m := m) (I := I) (A := A) (S := S) (h := h)
  have e2 := t_works_p10 (Γ := Γ) (n := n) (m := m) (I := I) (S := S) (h := h) hs ho' ha' num least hy (A 1) y 0 xFU (va_up A 2 (pCpy (A 1) (A 2) 0 0 592)) (by rw [va_up_ne _ _ (by omega)]; exact ho) (by rw [va_up_ne _ _ (by omega)]; exact ha) (by
    rw [va_up_self]
    funext j
    unfold pCpy
    by_cases hj : 0 ≤ j ∧ j < 0 + 592
    · rw [if_pos hj, if_pos hj]
    · rw [if_neg hj, if_neg hj]) (by intro j hj; rw [va_up_ne _ _ (by omega)]) (by omega) (by unfold xFU; omega)
  have hA : va_up (va_up A 2 (pCpy (A 1) (A 2) 0 0 592)) 1 (A 1) = va_up A 2 (pCpy (A 1) (A 2) 0 0 592) := by
    rw [va_sw _ _ _ (by omega), va_id]
  rw [hA] at e2
  simp (maxDischargeDepth := 9) only [xbind, xlet, xpure, tw_sel, tg_0, tg_4, tg_9, tg_12, tg_13, tg_14, tg_15, tg_16, tg_17, tg_18, tg_19, tg_20, tg_21, tg_24, tr_1, tr_2, tr_3, tr_5, tr_6, tr_7, tr_8, tr_10, tr_11, tr_22, tr_23, tp_0, tp_4, tp_9, tp_12, tp_13, tp_14, tp_15, tp_16, tp_17, tp_18, tp_19, tp_20, tp_21, tp_24, va_up_self, va_up_ne, va_uu, i_ofNat, i_add, i_mul, Nat.add_zero, Nat.zero_add, reduceIte, if_true, if_false, Nat.reduceEqDiff, ne_eq, not_false_eq_true, Nat.reduceEqDiff, not_true_eq_false] at e2
  simp (maxDischargeDepth := 9) only [fX3_works_p54, fX3_works_p53, fX3_works_p62, fX3_works, xbind, xlet, xpure, tw_sel, tg_0, tg_4, tg_9, tg_12, tg_13, tg_14, tg_15, tg_16, tg_17, tg_18, tg_19, tg_20, tg_21, tg_24, tr_1, tr_2, tr_3, tr_5, tr_6, tr_7, tr_8, tr_10, tr_11, tr_22, tr_23, tp_0, tp_4, tp_9, tp_12, tp_13, tp_14, tp_15, tp_16, tp_17, tp_18, tp_19, tp_20, tp_21, tp_24, va_up_self, va_up_ne, va_uu, i_ofNat, i_add, i_mul, Nat.add_zero, Nat.zero_add, reduceIte, if_true, if_false, Nat.reduceEqDiff, ne_eq, not_false_eq_true, Nat.reduceEqDiff, not_true_eq_false, e1, e2]
end TW19
