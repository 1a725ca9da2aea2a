/-! part 440: doubles: whole numbers below 2^53, no NaN -/
theorem d_t : FP.Core.b64.tails = 4503599627370496 := by decide
theorem d_e : FP.Core.b64.exps = 2048 := by decide
theorem d_qmin : FP.Core.b64.qmin = -1074 := by decide
theorem d_qmax : FP.Core.b64.qmax = 971 := by decide
def dOk (n : Nat) : Prop := n < 18446744073709551616 ∧ n % 9223372036854775808 ≤ 9218868437227405312
theorem d_ok {n : Nat} (h : dOk n) : (UInt64.ofNat n) &&& 0x7fffffffffffffff ≤ 0x7ff0000000000000 := by
  rw [UInt64.le_iff_toNat_le, UInt64.toNat_and]
  have e1 : (0x7fffffffffffffff : UInt64).toNat = 2 ^ 63 - 1 := by decide
  have e2 : (0x7ff0000000000000 : UInt64).toNat = 9218868437227405312 := by decide
  rw [e1, e2, Nat.and_two_pow_sub_one_eq_mod, UInt64.toNat_ofNat_of_lt' (by simpa using h.1)]
  exact h.2
theorem d_asm {s : Bool} {e t : Nat} (he : e < 2047 ∨ (e = 2047 ∧ t = 0)) (ht : t < 4503599627370496) : dOk (FP.Core.assemble FP.Core.b64 s e t) := by
  unfold FP.Core.assemble dOk
  rw [d_t, d_e]
  cases s <;> simp only [Bool.toNat_false, Bool.toNat_true] <;> omega
theorem d_bound {s : Bool} {c : Nat} {q : Int} (hc : c < 9007199254740992) : dOk (FP.Core.encode FP.Core.b64 (FP.Core.bound FP.Core.b64 s c q)) := by
  unfold FP.Core.bound
  rw [d_qmax]
  split
  · unfold FP.Core.encode
    rw [d_t, d_qmin]
    dsimp only
    split
    · exact d_asm (Or.inl (by omega)) (by omega)
    · exact d_asm (Or.inl (by omega)) (by omega)
  · unfold FP.Core.encode
    exact d_asm (Or.inr ⟨by rw [d_e], rfl⟩) (by omega)
theorem d_rr (s : Bool) (A B : Nat) (e : Int) : dOk (FP.Core.encode FP.Core.b64 (FP.Core.roundRatio FP.Core.b64 s A B e)) := by
  unfold FP.Core.roundRatio
  split
  · have : FP.Core.Datum.fin s 0 FP.Core.b64.qmin = FP.Core.bound FP.Core.b64 s 0 FP.Core.b64.qmin := by
      unfold FP.Core.bound
      rw [if_pos (by decide)]
    rw [this]
    exact d_bound (by omega)
  · unfold FP.Core.roundAt FP.Core.settle
    have hp : 2 ^ FP.Core.b64.p = 9007199254740992 := by decide
    split
    · rename_i h
      rw [hp] at h
      exact d_bound h
    · exact d_bound (by rw [d_t]; omega)
theorem x_nan {α : Type} {n : Nat} {k : xM α} (h : dOk n) : xnan (UInt64.ofNat n) k = k := by
  unfold xnan
  exact if_pos (d_ok h)
/-- how a whole number A below 2^53 is written -/
def dC (A : Nat) : Nat := A * 2 ^ (52 - A.log2)
def dQ (A : Nat) : Int := (A.log2 : Int) - 52
theorem d_log {A : Nat} (h0 : 0 < A) (hA : A < 9007199254740992) : A.log2 ≤ 52 ∧ 4503599627370496 ≤ dC A ∧ dC A < 9007199254740992 := by
  have h1 : A.log2 < 53 := (Nat.log2_lt (by omega)).mpr (by omega)
  have h2 : 2 ^ A.log2 ≤ A := Nat.log2_self_le (by omega)
  have h3 : A < 2 ^ (A.log2 + 1) := Nat.lt_log2_self
  unfold dC
  have e1 : 2 ^ A.log2 * 2 ^ (52 - A.log2) = 4503599627370496 := by
    rw [← Nat.pow_add, show A.log2 + (52 - A.log2) = 52 by omega]
  have e2 : 2 ^ (A.log2 + 1) * 2 ^ (52 - A.log2) = 9007199254740992 := by
    rw [← Nat.pow_add, show A.log2 + 1 + (52 - A.log2) = 53 by omega]
  refine ⟨by omega, ?_, ?_⟩
  · rw [← e1]
    exact Nat.mul_le_mul_right _ h2
  · rw [← e2]
    exact Nat.mul_lt_mul_of_pos_right h3 (Nat.two_pow_pos _)
theorem d_round {s : Bool} {A : Nat} (h0 : 0 < A) (hA : A < 9007199254740992) : FP.Core.roundRatio FP.Core.b64 s A 1 0 = .fin s (dC A) (dQ A) := by
  obtain ⟨h1, h2, h3⟩ := d_log h0 hA
  have hlead : FP.Core.leading A 1 = (A.log2 : Int) := by
    unfold FP.Core.leading
    have hk : ((A.log2 : Int) - ((1 : Nat).log2 : Int)) = (A.log2 : Int) := by
      have : (1 : Nat).log2 = 0 := by decide
      rw [this]
      omega
    simp only [hk]
    have hle : 2 ^ A.log2 ≤ A := Nat.log2_self_le (by omega)
    rw [if_pos]
    have e1 : ((A.log2 : Int)).toNat = A.log2 := by omega
    have e2 : (-(A.log2 : Int)).toNat = 0 := by omega
    rw [e1, e2]
    simpa using hle
  have hq : FP.Core.quantum FP.Core.b64 A 1 0 = dQ A := by
    unfold FP.Core.quantum dQ
    rw [hlead, d_qmin]
    have : (FP.Core.b64.p : Int) = 53 := by decide
    rw [this]
    omega
  unfold FP.Core.roundRatio
  rw [if_neg (by omega), hq]
  unfold FP.Core.roundAt
  have hu : FP.Core.unitsNum A 0 (dQ A) = dC A := by
    unfold FP.Core.unitsNum dQ dC
    congr 2
    omega
  have hv : FP.Core.unitsDen 1 0 (dQ A) = 1 := by
    unfold FP.Core.unitsDen dQ
    have : ((A.log2 : Int) - 52 - 0).toNat = 0 := by omega
    rw [this]
  have hn : FP.Core.nearest (dC A) 1 = dC A := by
    unfold FP.Core.nearest
    rw [Nat.mod_one, if_pos (by omega), Nat.div_one]
  rw [hu, hv, hn]
  unfold FP.Core.settle FP.Core.bound
  have hp : 2 ^ FP.Core.b64.p = 9007199254740992 := by decide
  rw [hp, if_pos h3, d_qmax, if_pos (by unfold dQ; omega)]
theorem d_deL {s : Bool} {L c : Nat} (hl : 0 < L ∧ L < 2047) (h3 : 4503599627370496 ≤ c ∧ c < 9007199254740992) : FP.Core.decode FP.Core.b64 ((s.toNat * 2048 + L) * 4503599627370496 + (c - 4503599627370496)) = .fin s c ((L : Int) + -1074 - 1) := by
  unfold FP.Core.decode FP.Core.fieldE FP.Core.fieldT FP.Core.fieldS
  rw [d_t, d_e, d_qmin]
  have hE : ((s.toNat * 2048 + L) * 4503599627370496 + (c - 4503599627370496)) / 4503599627370496 = s.toNat * 2048 + L := by omega
  have hT : ((s.toNat * 2048 + L) * 4503599627370496 + (c - 4503599627370496)) % 4503599627370496 = c - 4503599627370496 := by omega
  rw [hE, hT]
  have hE2 : (s.toNat * 2048 + L) % 2048 = L := by
    rw [Nat.mul_comm, Nat.mul_add_mod, Nat.mod_eq_of_lt (by omega)]
  have hS : ((s.toNat * 2048 + L) / 2048 % 2 == 1) = s := by
    have : (s.toNat * 2048 + L) / 2048 = s.toNat := by
      rw [Nat.mul_comm, Nat.mul_add_div (by decide), Nat.div_eq_of_lt (by omega), Nat.add_zero]
    rw [this]
    cases s <;> rfl
  rw [hE2, hS, if_neg (by omega), if_neg (by omega)]
  have hc : 4503599627370496 + (c - 4503599627370496) = c := by omega
  have hq : (-1074 : Int) + ((L : Int) - 1) = (L : Int) + -1074 - 1 := by omega
  first
    | rw [hc, hq]
    | (rw [Nat.add_comm, hc, hq])
    | (rw [Nat.add_comm, hc])
    | rw [hc]
theorem d_dec {s : Bool} {A : Nat} (h0 : 0 < A) (hA : A < 9007199254740992) : FP.Core.decode FP.Core.b64 (FP.Core.encode FP.Core.b64 (.fin s (dC A) (dQ A))) = .fin s (dC A) (dQ A) := by
  obtain ⟨h1, h2, h3⟩ := d_log h0 hA
  have he : FP.Core.encode FP.Core.b64 (.fin s (dC A) (dQ A)) = (s.toNat * 2048 + (A.log2 + 1023)) * 4503599627370496 + (dC A - 4503599627370496) := by
    unfold FP.Core.encode FP.Core.assemble
    rw [d_t, d_e, d_qmin]
    dsimp only
    rw [if_neg (by omega)]
    have : (dQ A - -1074).toNat + 1 = A.log2 + 1023 := by unfold dQ; omega
    rw [this]
  have hq : dQ A = ((A.log2 + 1023 : Nat) : Int) + -1074 - 1 := by unfold dQ; omega
  have hz := d_deL (s := s) (L := A.log2 + 1023) (c := dC A) (by omega) (by omega)
  rw [he, hz, hq]
