/-! part 447: doubles: sums of whole numbers are exact -/
theorem d_nmul {X D : Nat} (hD : 0 < D) : FP.Core.nearest (X * D) D = X := by
  unfold FP.Core.nearest
  rw [Nat.mul_mod_left, if_pos (by omega), Nat.mul_div_cancel _ hD]
theorem d_scale {s : Bool} {A k : Nat} (h0 : 0 < A) (hA : A < 9007199254740992) : FP.Core.roundRatio FP.Core.b64 s (A * 2 ^ k) 1 (-(k : Int)) = .fin s (dC A) (dQ A) := by
  obtain ⟨h1, h2, h3⟩ := d_log h0 hA
  have hp : 0 < A * 2 ^ k := Nat.mul_pos h0 (Nat.two_pow_pos k)
  have hl : (A * 2 ^ k).log2 = A.log2 + k := by
    have := (Nat.log2_eq_iff (n := A * 2 ^ k) (k := A.log2 + k) (by omega)).mpr
    apply this
    have a1 : 2 ^ A.log2 ≤ A := Nat.log2_self_le (by omega)
    have a2 : A < 2 ^ (A.log2 + 1) := Nat.lt_log2_self
    refine ⟨?_, ?_⟩
    · rw [Nat.pow_add]
      exact Nat.mul_le_mul_right _ a1
    · rw [show A.log2 + k + 1 = (A.log2 + 1) + k by omega, Nat.pow_add]
      exact Nat.mul_lt_mul_of_pos_right a2 (Nat.two_pow_pos _)
  unfold FP.Core.roundRatio
  rw [if_neg (by omega)]
  have hq : FP.Core.quantum FP.Core.b64 (A * 2 ^ k) 1 (-(k : Int)) = dQ A := by
    unfold FP.Core.quantum
    rw [d_lead hp, hl, d_qmin]
    have : (FP.Core.b64.p : Int) = 53 := by decide
    rw [this]
    unfold dQ
    omega
  rw [hq]
  unfold FP.Core.roundAt
  have hn : FP.Core.nearest (FP.Core.unitsNum (A * 2 ^ k) (-(k : Int)) (dQ A)) (FP.Core.unitsDen 1 (-(k : Int)) (dQ A)) = dC A := by
    unfold FP.Core.unitsNum FP.Core.unitsDen dQ dC
    by_cases hk : A.log2 + k ≤ 52
    · have e1 : (-(k : Int) - ((A.log2 : Int) - 52)).toNat = 52 - A.log2 - k := by omega
      have e2 : (((A.log2 : Int) - 52) - -(k : Int)).toNat = 0 := by omega
      rw [e1, e2, Nat.mul_assoc, ← Nat.pow_add, show k + (52 - A.log2 - k) = 52 - A.log2 by omega]
      have := d_nmul (X := A * 2 ^ (52 - A.log2)) (D := 1 * 2 ^ 0) (by decide)
      rw [show (1 * 2 ^ 0 : Nat) = 1 by decide, Nat.mul_one] at this
      exact this
    · have e1 : (-(k : Int) - ((A.log2 : Int) - 52)).toNat = 0 := by omega
      have e2 : (((A.log2 : Int) - 52) - -(k : Int)).toNat = A.log2 + k - 52 := by omega
      rw [e1, e2, Nat.pow_zero, Nat.mul_one, Nat.one_mul]
      have e3 : A * 2 ^ k = A * 2 ^ (52 - A.log2) * 2 ^ (A.log2 + k - 52) := by
        rw [Nat.mul_assoc, ← Nat.pow_add, show 52 - A.log2 + (A.log2 + k - 52) = k by omega]
      rw [e3]
      exact d_nmul (Nat.two_pow_pos _)
  rw [hn]
  unfold FP.Core.settle FP.Core.bound
  have hp : 2 ^ FP.Core.b64.p = 9007199254740992 := by decide
  rw [hp, if_pos h3, d_qmax, if_pos (by unfold dQ; omega)]
/-- the datum .fin s c q is the whole number i, in units of 2^-k -/
theorem d_units {i : Int} (h : i.natAbs < 9007199254740992) : ∃ s c q, dN i = .fin s c q ∧ q ≤ 0 ∧ (i = 0 → s = false) ∧ (i ≠ 0 → s = decide (i < 0)) ∧ ∀ e, e ≤ q → FP.Core.signed s (FP.Core.inUnits c q e) = i * 2 ^ (-e).toNat := by
  unfold dN
  by_cases h0 : i = 0
  · subst h0
    rw [if_pos rfl]
    refine ⟨_, _, _, rfl, by omega, fun _ => rfl, fun q => absurd rfl q, fun e he => ?_⟩
    unfold FP.Core.signed FP.Core.inUnits
    simp
  · rw [if_neg h0]
    have hl := d_log (A := i.natAbs) (by omega) h
    refine ⟨_, _, _, rfl, by unfold dQ; omega, fun q => absurd q h0, fun _ => rfl, fun e he => ?_⟩
    unfold dQ at he
    unfold FP.Core.signed FP.Core.inUnits dC dQ
    have e1 : i.natAbs * 2 ^ (52 - i.natAbs.log2) * 2 ^ (((i.natAbs.log2 : Int) - 52) - e).toNat = i.natAbs * 2 ^ (-e).toNat := by
      rw [Nat.mul_assoc, ← Nat.pow_add]
      congr 2
      omega
    rw [e1]
    by_cases hn : i < 0
    · rw [decide_eq_true hn, if_pos rfl, Int.natCast_mul, ← Int.neg_mul]
      have : -(i.natAbs : Int) = i := by omega
      rw [this]
      norm_cast
    · rw [decide_eq_false hn, if_neg (by decide), Int.natCast_mul]
      have : (i.natAbs : Int) = i := by omega
      rw [this]
      norm_cast
theorem d_sum {i j : Int} (hi : i.natAbs < 9007199254740992) (hj : j.natAbs < 9007199254740992) (hs : (i + j).natAbs < 9007199254740992) : FP.Core.round FP.Core.b64 (FP.Core.exactSum (dN i) (dN j)) = dN (i + j) := by
  obtain ⟨s, c, q, e1, q1, z1, n1, u1⟩ := d_units hi
  obtain ⟨t, d, r, e2, q2, z2, n2, u2⟩ := d_units hj
  rw [e1, e2]
  show FP.Core.roundRatio FP.Core.b64 (FP.Core.sumSign s t (FP.Core.sumUnits s c q t d r (min q r))) (FP.Core.sumUnits s c q t d r (min q r)).natAbs 1 (min q r) = _
  have hu : FP.Core.sumUnits s c q t d r (min q r) = (i + j) * 2 ^ (-(min q r)).toNat := by
    unfold FP.Core.sumUnits
    rw [u1 _ (by omega), u2 _ (by omega), Int.add_mul]
  rw [hu]
  obtain ⟨k, hk⟩ : ∃ k : Nat, min q r = -(k : Int) := ⟨(-(min q r)).toNat, by omega⟩
  rw [hk, show (-(-(k : Int))).toNat = k by omega]
  have hpow : (0 : Int) < 2 ^ k := Int.pow_pos (by decide)
  by_cases h0 : i + j = 0
  · rw [h0, Int.zero_mul]
    unfold FP.Core.sumSign FP.Core.roundRatio
    rw [if_pos rfl, if_pos (show Int.natAbs 0 = 0 by decide), d_qmin]
    have : (s && t) = false := by
      by_cases hi0 : i = 0
      · rw [z1 hi0]
        rfl
      · rw [n1 hi0, n2 (by omega)]
        by_cases hn : i < 0
        · rw [decide_eq_false (show ¬ j < 0 by omega), Bool.and_false]
        · rw [decide_eq_false hn, Bool.false_and]
    rw [this]
    rfl
  · have hne : (i + j) * 2 ^ k ≠ 0 := Int.mul_ne_zero h0 (by omega)
    have ha : ((i + j) * 2 ^ k).natAbs = (i + j).natAbs * 2 ^ k := by
      rw [Int.natAbs_mul, Int.natAbs_pow]
      rfl
    have hsg : FP.Core.sumSign s t ((i + j) * 2 ^ k) = decide (i + j < 0) := by
      unfold FP.Core.sumSign
      rw [if_neg hne]
      by_cases hn : i + j < 0
      · rw [decide_eq_true hn, decide_eq_true (Int.mul_neg_of_neg_of_pos hn hpow)]
      · rw [decide_eq_false hn, decide_eq_false]
        have := Int.mul_nonneg (show 0 ≤ i + j by omega) (show (0 : Int) ≤ 2 ^ k by omega)
        omega
    rw [hsg, ha, d_scale (by omega) hs]
    unfold dN
    rw [if_neg h0]
/-- the double that is the whole number i -/
def dV (i : Int) : UInt64 := UInt64.ofNat (FP.Core.encode FP.Core.b64 (dN i))
theorem d_rN {i : Int} (h : i.natAbs < 9007199254740992) : FP.Core.round FP.Core.b64 (FP.Core.ofInt i) = dN i := by
  show FP.Core.roundRatio FP.Core.b64 (decide (i < 0)) i.natAbs 1 0 = _
  unfold dN
  by_cases h0 : i = 0
  · subst h0
    unfold FP.Core.roundRatio
    rw [if_pos rfl, if_pos (show Int.natAbs 0 = 0 by decide), d_qmin]
    rfl
  · rw [if_neg h0]
    exact d_round (by omega) h
theorem d_vi (a : Int32) : FP.i2d a = dV a.toInt := by
  have h1 := Int32.le_toInt a
  have h2 := Int32.toInt_lt a
  show UInt64.ofNat (FP.Core.encode FP.Core.b64 (FP.Core.round FP.Core.b64 (FP.Core.ofInt a.toInt))) = _
  rw [d_rN (by omega)]
  rfl
theorem d_vl {a : Int64} (h : a.toInt.natAbs < 9007199254740992) : FP.l2d a = dV a.toInt := by
  show UInt64.ofNat (FP.Core.encode FP.Core.b64 (FP.Core.round FP.Core.b64 (FP.Core.ofInt a.toInt))) = _
  rw [d_rN h]
  rfl
theorem d_vN {i : Int} (h : i.natAbs < 9007199254740992) : FP.Core.decode FP.Core.b64 (dV i).toNat = dN i := by
  have e : dV i = UInt64.ofNat (FP.Core.fromInt FP.Core.b64 i) := by
    unfold dV FP.Core.fromInt
    rw [d_rN h]
  rw [e, d_lt (d_fiOk _), d_ofInt h]
theorem d_vadd {i j : Int} (hi : i.natAbs < 9007199254740992) (hj : j.natAbs < 9007199254740992) (hs : (i + j).natAbs < 9007199254740992) : FP.dadd (dV i) (dV j) = dV (i + j) := by
  show UInt64.ofNat (FP.Core.encode FP.Core.b64 (FP.Core.round FP.Core.b64 (FP.Core.exactSum (FP.Core.decode FP.Core.b64 (dV i).toNat) (FP.Core.decode FP.Core.b64 (dV j).toNat)))) = _
  rw [d_vN hi, d_vN hj, d_sum hi hj hs]
  rfl
theorem d_v1 : FP.dconst1 = dV 1 := by
  have := d_vi 1
  rw [show (1 : Int32).toInt = 1 by decide] at this
  rw [← this]
  decide
theorem d_v2 : (4611686018427387904 : UInt64) = dV 2 := by
  have := d_vi 2
  rw [show (2 : Int32).toInt = 2 by decide] at this
  rw [← this]
  decide
theorem dFin.v {i : Int} (h : i.natAbs < 9007199254740992) : dFin (dV i) := by
  unfold dFin
  rw [d_vN h]
  exact d_dN i
theorem dNz.v {i : Int} (h : i.natAbs < 9007199254740992) (h0 : i ≠ 0) : dNz (dV i) := by
  unfold dNz
  rw [d_vN h]
  unfold dN
  rw [if_neg h0]
  have := d_log (A := i.natAbs) (by omega) h
  exact ⟨_, _, _, rfl, by omega⟩
