/-! part 444: doubles: any long -/
theorem d_ef {s : Bool} {c : Nat} {q : Int} (h3 : 4503599627370496 ≤ c ∧ c < 9007199254740992) (hq : -1074 ≤ q ∧ q ≤ 971) : FP.Core.decode FP.Core.b64 (FP.Core.encode FP.Core.b64 (.fin s c q)) = .fin s c q := by
  obtain ⟨L, hL⟩ : ∃ L : Nat, q = (L : Int) + -1074 - 1 := ⟨(q + 1075).toNat, by omega⟩
  have he : FP.Core.encode FP.Core.b64 (.fin s c q) = (s.toNat * 2048 + L) * 4503599627370496 + (c - 4503599627370496) := by
    unfold FP.Core.encode FP.Core.assemble
    rw [d_t, d_e, d_qmin]
    dsimp only
    rw [if_neg (by omega)]
    have : (q - -1074).toNat + 1 = L := by omega
    rw [this]
  have hz := d_deL (s := s) (L := L) (c := c) (by omega) h3
  rw [he, hz, hL]
theorem d_lead {A : Nat} (h0 : 0 < A) : FP.Core.leading A 1 = (A.log2 : Int) := by
  unfold FP.Core.leading
  have hk : ((A.log2 : Int) - ((1 : Nat).log2 : Int)) = (A.log2 : Int) := by
    have : (1 : Nat).log2 = 0 := by decide
    rw [this]
    omega
  simp only [hk]
  have hle : 2 ^ A.log2 ≤ A := Nat.log2_self_le (by omega)
  rw [if_pos]
  have e1 : ((A.log2 : Int)).toNat = A.log2 := by omega
  have e2 : (-(A.log2 : Int)).toNat = 0 := by omega
  rw [e1, e2]
  omega
theorem d_near {A D : Nat} (hD : 0 < D) (h1 : 4503599627370496 * D ≤ A) (h2 : A < 9007199254740992 * D) : 4503599627370496 ≤ FP.Core.nearest A D ∧ FP.Core.nearest A D ≤ 9007199254740992 := by
  have a1 : 4503599627370496 ≤ A / D := (Nat.le_div_iff_mul_le hD).mpr h1
  have a2 : A / D < 9007199254740992 := (Nat.div_lt_iff_lt_mul hD).mpr h2
  unfold FP.Core.nearest
  generalize A / D = g at a1 a2 ⊢
  split
  · omega
  · split <;> omega
theorem d_big {s : Bool} {A : Nat} (h1 : 9007199254740992 ≤ A) (h2 : A < 18446744073709551616) : ∃ c q, FP.Core.decode FP.Core.b64 (FP.Core.encode FP.Core.b64 (FP.Core.roundRatio FP.Core.b64 s A 1 0)) = .fin s c q ∧ c ≠ 0 := by
  have l1 : A.log2 < 64 := (Nat.log2_lt (by omega)).mpr (by omega)
  have l2 : 53 ≤ A.log2 := (Nat.le_log2 (by omega)).mpr (by omega)
  have l3 : 2 ^ A.log2 ≤ A := Nat.log2_self_le (by omega)
  have l4 : A < 2 ^ (A.log2 + 1) := Nat.lt_log2_self
  unfold FP.Core.roundRatio
  rw [if_neg (by omega)]
  have hq : FP.Core.quantum FP.Core.b64 A 1 0 = (A.log2 : Int) - 52 := by
    unfold FP.Core.quantum
    rw [d_lead (by omega), d_qmin]
    have : (FP.Core.b64.p : Int) = 53 := by decide
    rw [this]
    omega
  rw [hq]
  unfold FP.Core.roundAt
  generalize hl : A.log2 = l at *
  obtain ⟨k, rfl⟩ : ∃ k, l = 52 + k := ⟨l - 52, by omega⟩
  have hu : FP.Core.unitsNum A 0 (((52 + k : Nat) : Int) - 52) = A := by
    unfold FP.Core.unitsNum
    have : (0 - (((52 + k : Nat) : Int) - 52)).toNat = 0 := by omega
    rw [this]
    omega
  have hv : FP.Core.unitsDen 1 0 (((52 + k : Nat) : Int) - 52) = 2 ^ k := by
    unfold FP.Core.unitsDen
    have : ((((52 + k : Nat) : Int) - 52) - 0).toNat = k := by omega
    rw [this, Nat.one_mul]
  rw [hu, hv]
  have n := d_near (A := A) (Nat.two_pow_pos k) (by rw [Nat.pow_add] at l3; exact l3) (by rw [show 52 + k + 1 = 53 + k by omega, Nat.pow_add] at l4; exact l4)
  generalize FP.Core.nearest A (2 ^ k) = c at n ⊢
  unfold FP.Core.settle FP.Core.bound
  have hp : 2 ^ FP.Core.b64.p = 9007199254740992 := by decide
  rw [hp, d_qmax, d_t]
  by_cases hc : c < 9007199254740992
  · rw [if_pos hc, if_pos (by omega)]
    exact ⟨_, _, d_ef ⟨n.1, hc⟩ (by omega), by omega⟩
  · rw [if_neg hc, if_pos (by omega)]
    exact ⟨_, _, d_ef (by omega) (by omega), by omega⟩
theorem dNz.l2dA {a : Int64} (h0 : a.toInt ≠ 0) : dNz (FP.l2d a) := by
  by_cases h : a.toInt.natAbs < 9007199254740992
  · exact dNz.l2d h h0
  · have h1 := Int64.le_toInt a
    have h2 := Int64.toInt_lt a
    obtain ⟨c, q, e, hc⟩ := d_big (s := decide (a.toInt < 0)) (A := a.toInt.natAbs) (by omega) (by omega)
    refine ⟨decide (a.toInt < 0), c, q, ?_, hc⟩
    show FP.Core.decode FP.Core.b64 (UInt64.ofNat (FP.Core.fromInt FP.Core.b64 a.toInt)).toNat = _
    rw [d_lt (d_fiOk _)]
    exact e
theorem dFin.l2dA (a : Int64) : dFin (FP.l2d a) := by
  by_cases h : a.toInt = 0
  · exact dFin.l2d (by omega)
  · exact (dNz.l2dA h).fin
