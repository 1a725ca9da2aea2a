/-! part 448: doubles: differences of whole numbers are exact -/
theorem d_sumG {i j : Int} (hi : i.natAbs < 9007199254740992) (hs : (i + j).natAbs < 9007199254740992) {t : Bool} {d : Nat} {r : Int} (q2 : r ≤ 0) (n2 : j ≠ 0 → t = decide (j < 0)) (u2 : ∀ e, e ≤ r → FP.Core.signed t (FP.Core.inUnits d r e) = j * 2 ^ (-e).toNat) : FP.Core.round FP.Core.b64 (FP.Core.exactSum (dN i) (.fin t d r)) = dN (i + j) := by
  obtain ⟨s, c, q, e1, q1, z1, n1, u1⟩ := d_units hi
  rw [e1]
  show FP.Core.roundRatio FP.Core.b64 (FP.Core.sumSign s t (FP.Core.sumUnits s c q t d r (min q r))) (FP.Core.sumUnits s c q t d r (min q r)).natAbs 1 (min q r) = _
  have hu : FP.Core.sumUnits s c q t d r (min q r) = (i + j) * 2 ^ (-(min q r)).toNat := by
    unfold FP.Core.sumUnits
    rw [u1 _ (by omega), u2 _ (by omega), Int.add_mul]
  rw [hu]
  obtain ⟨k, hk⟩ : ∃ k : Nat, min q r = -(k : Int) := ⟨(-(min q r)).toNat, by omega⟩
  rw [hk, show (-(-(k : Int))).toNat = k by omega]
  have hpow : (0 : Int) < 2 ^ k := Int.pow_pos (by decide)
  by_cases h0 : i + j = 0
  · rw [h0, Int.zero_mul]
    unfold FP.Core.sumSign FP.Core.roundRatio
    rw [if_pos rfl, if_pos (show Int.natAbs 0 = 0 by decide), d_qmin]
    have : (s && t) = false := by
      by_cases hi0 : i = 0
      · rw [z1 hi0]
        rfl
      · rw [n1 hi0, n2 (by omega)]
        by_cases hn : i < 0
        · rw [decide_eq_false (show ¬ j < 0 by omega), Bool.and_false]
        · rw [decide_eq_false hn, Bool.false_and]
    rw [this]
    rfl
  · have hne : (i + j) * 2 ^ k ≠ 0 := Int.mul_ne_zero h0 (by omega)
    have ha : ((i + j) * 2 ^ k).natAbs = (i + j).natAbs * 2 ^ k := by
      rw [Int.natAbs_mul, Int.natAbs_pow]
      rfl
    have hsg : FP.Core.sumSign s t ((i + j) * 2 ^ k) = decide (i + j < 0) := by
      unfold FP.Core.sumSign
      rw [if_neg hne]
      by_cases hn : i + j < 0
      · rw [decide_eq_true hn, decide_eq_true (Int.mul_neg_of_neg_of_pos hn hpow)]
      · rw [decide_eq_false hn, decide_eq_false]
        have := Int.mul_nonneg (show 0 ≤ i + j by omega) (show (0 : Int) ≤ 2 ^ k by omega)
        omega
    rw [hsg, ha, d_scale (by omega) hs]
    unfold dN
    rw [if_neg h0]
theorem d_vsub {i j : Int} (hi : i.natAbs < 9007199254740992) (hj : j.natAbs < 9007199254740992) (hs : (i - j).natAbs < 9007199254740992) : FP.dsub (dV i) (dV j) = dV (i - j) := by
  show UInt64.ofNat (FP.Core.encode FP.Core.b64 (FP.Core.round FP.Core.b64 (FP.Core.exactSum (FP.Core.decode FP.Core.b64 (dV i).toNat) (FP.Core.negate (FP.Core.decode FP.Core.b64 (dV j).toNat))))) = _
  rw [d_vN hi, d_vN hj]
  obtain ⟨t, d, r, e2, q2, z2, n2, u2⟩ := d_units hj
  rw [e2]
  show UInt64.ofNat (FP.Core.encode FP.Core.b64 (FP.Core.round FP.Core.b64 (FP.Core.exactSum (dN i) (.fin (!t) d r)))) = _
  have hd : i - j = i + -j := by omega
  rw [hd] at hs ⊢
  rw [d_sumG hi hs q2 ?_ ?_]
  · rfl
  · intro h0
    rw [n2 (by omega)]
    by_cases hn : j < 0
    · rw [decide_eq_true hn, decide_eq_false (show ¬ -j < 0 by omega)]
      rfl
    · rw [decide_eq_false hn, decide_eq_true (show -j < 0 by omega)]
      rfl
  · intro e he
    rw [Int.neg_mul, ← u2 e he]
    unfold FP.Core.signed
    cases t <;> simp
