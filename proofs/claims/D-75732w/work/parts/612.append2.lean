/-! part 612: append -/
section AQ
variable {Γ : Nat → Option Nat} {h : xH} {n x bf t : Nat} {L : List Value} {T W : Nat → Int32}
theorem k_wordP {j : Nat} {w : Int32} (d : x ≠ bf) (hj : j < 5) (ht : t + 20 ≤ 900) (hw : W j = w) : xsel (some x) [(0, fun z => fX1_appendWord z w)] Γ (aV h x bf L (t + 4 * j) (pApp T W t (4 * j))) n = some (.inl (), aV h x bf L (t + 4 * (j + 1)) (pApp T W t (4 * (j + 1))), 0, 0) := by
  rw [k_word d (by omega)]
  have s : ∀ i, i < 4 → va_up (pApp T W t (4 * j + i)) (t + 4 * j + i) (bt w i) = pApp T W t (4 * j + i + 1) := fun i hi => by
    have := pApp_step (T := T) (W := W) (t := t) (k := 4 * j + i)
    rw [show (4 * j + i) / 4 = j by omega, show (4 * j + i) % 4 = i by omega, hw, show t + (4 * j + i) = t + 4 * j + i by omega] at this
    exact this
  have s0 := s 0 (by omega)
  rw [Nat.add_zero, Nat.add_zero] at s0
  rw [s0, s 1 (by omega), s 2 (by omega), s 3 (by omega)]
  rfl
theorem k_append1 (d : x ≠ bf) (ht : t + 20 ≤ 900) (a b c e f : Int32) : fX1_append x a b c e f Γ (aV h x bf L t T) n = some (.inl (Int32.ofNat (t + 20)), aV h x bf L (t + 20) (pApp T (pFive W a b c e f) t 20), 0, 0) := by
  have i20 : (20 : Int32) = Int32.ofNat 20 := rfl
  have i900 : (900 : Int32) = Int32.ofNat 900 := rfl
  have w0 := k_wordP (Γ := Γ) (n := n) (h := h) (L := L) (T := T) (W := pFive W a b c e f) (t := t) (j := 0) (w := a) d (by omega) ht rfl
  have w1 := k_wordP (Γ := Γ) (n := n) (h := h) (L := L) (T := T) (W := pFive W a b c e f) (t := t) (j := 1) (w := b) d (by omega) ht rfl
  have w2 := k_wordP (Γ := Γ) (n := n) (h := h) (L := L) (T := T) (W := pFive W a b c e f) (t := t) (j := 2) (w := c) d (by omega) ht rfl
  have w3 := k_wordP (Γ := Γ) (n := n) (h := h) (L := L) (T := T) (W := pFive W a b c e f) (t := t) (j := 3) (w := e) d (by omega) ht rfl
  have w4 := k_wordP (Γ := Γ) (n := n) (h := h) (L := L) (T := T) (W := pFive W a b c e f) (t := t) (j := 4) (w := f) d (by omega) ht rfl
  rw [Nat.mul_zero, pApp_0, Nat.add_zero] at w0
  unfold fX1_append
  rw [x_b1 (av_g1 d), i20, i900, i_add, if_pos (by rw [i_le (by omega) (by omega)]; exact ht), x_b1 w0, x_b1 w1, x_b1 w2, x_b1 w3, x_b1 w4, x_b1 (av_g1 d)]
  rfl
theorem k_append0 (d : x ≠ bf) (h9 : t ≤ 900) (ht : ¬ t + 20 ≤ 900) (a b c e f : Int32) : fX1_append x a b c e f Γ (aV h x bf L t T) n = some (.inl (-Int32.ofNat 1), aV h x bf L t T, 0, 0) := by
  have i20 : (20 : Int32) = Int32.ofNat 20 := rfl
  have i900 : (900 : Int32) = Int32.ofNat 900 := rfl
  unfold fX1_append
  rw [x_b1 (av_g1 d), i20, i900, i_add, if_neg (by rw [i_le (by omega) (by omega)]; exact ht)]
  rfl
end AQ
