/-! part 449: doubles: products of bounded numbers are finite -/
def dB (v : UInt64) (k : Int) : Prop := ∃ s c q, FP.Core.decode FP.Core.b64 v.toNat = .fin s c q ∧ c < 9007199254740992 ∧ q ≤ k
theorem dB.fin {v : UInt64} {k : Int} (h : dB v k) : dFin v := by
  obtain ⟨s, c, q, h, -⟩ := h
  exact ⟨s, c, q, h⟩
theorem d_efS {s : Bool} {c : Nat} {q : Int} (h : c < 4503599627370496) : FP.Core.decode FP.Core.b64 (FP.Core.encode FP.Core.b64 (.fin s c q)) = .fin s c (-1074) := by
  have he : FP.Core.encode FP.Core.b64 (.fin s c q) = s.toNat * 2048 * 4503599627370496 + c := by
    unfold FP.Core.encode FP.Core.assemble
    rw [d_t, d_e]
    dsimp only
    rw [if_pos h, Nat.add_zero]
  rw [he]
  unfold FP.Core.decode FP.Core.fieldE FP.Core.fieldT FP.Core.fieldS
  rw [d_t, d_e, d_qmin]
  have hE : (s.toNat * 2048 * 4503599627370496 + c) / 4503599627370496 = s.toNat * 2048 := by omega
  have hT : (s.toNat * 2048 * 4503599627370496 + c) % 4503599627370496 = c := by omega
  have hM : s.toNat * 2048 % 2048 = 0 := Nat.mul_mod_left _ _
  have hS : (s.toNat * 2048 / 2048 % 2 == 1) = s := by
    rw [Nat.mul_div_cancel _ (by decide)]
    cases s <;> rfl
  rw [hE, hT, hM, hS, if_neg (by decide), if_pos rfl]
theorem d_efB {s : Bool} {c : Nat} {q k : Int} (h : c < 9007199254740992) (hq : -1074 ≤ q ∧ q ≤ 971) (hk : q ≤ k) : ∃ s' c' q', FP.Core.decode FP.Core.b64 (FP.Core.encode FP.Core.b64 (.fin s c q)) = .fin s' c' q' ∧ c' < 9007199254740992 ∧ q' ≤ k := by
  by_cases hc : c < 4503599627370496
  · exact ⟨s, c, -1074, d_efS hc, h, by omega⟩
  · exact ⟨s, c, q, d_ef (by omega) hq, h, hk⟩
theorem d_rrB {s : Bool} {A a : Nat} {e k : Int} (hA : A < 2 ^ a) (hk : -1073 ≤ k ∧ (a : Int) + e - 52 ≤ k ∧ k ≤ 971) : ∃ s' c' q', FP.Core.decode FP.Core.b64 (FP.Core.encode FP.Core.b64 (FP.Core.roundRatio FP.Core.b64 s A 1 e)) = .fin s' c' q' ∧ c' < 9007199254740992 ∧ q' ≤ k := by
  unfold FP.Core.roundRatio
  by_cases h0 : A = 0
  · rw [if_pos h0, d_qmin]
    exact d_efB (by omega) (by omega) (by omega)
  · rw [if_neg h0]
    have hl : A.log2 < a := (Nat.log2_lt h0).mpr hA
    have hq : FP.Core.quantum FP.Core.b64 A 1 e = max (-1074) ((A.log2 : Int) + e - 52) := by
      unfold FP.Core.quantum
      rw [d_lead (by omega), d_qmin]
      have : (FP.Core.b64.p : Int) = 53 := by decide
      rw [this]
      rfl
    unfold FP.Core.roundAt
    rw [hq]
    generalize hQ : max (-1074) ((A.log2 : Int) + e - 52) = Q
    generalize FP.Core.nearest _ _ = c
    unfold FP.Core.settle FP.Core.bound
    have hp : 2 ^ FP.Core.b64.p = 9007199254740992 := by decide
    rw [hp, d_qmax, d_t]
    by_cases hc : c < 9007199254740992
    · rw [if_pos hc, if_pos (by omega)]
      exact d_efB hc (by omega) (by omega)
    · rw [if_neg hc]
      rw [if_pos (by omega)]
      exact d_efB (by omega) (by omega) (by omega)
theorem dB.mul {v w : UInt64} {k l : Int} (hv : dB v k) (hw : dB w l) (h1 : -1128 ≤ k + l) (h2 : k + l ≤ 900) : dB (FP.dmul v w) (k + l + 55) := by
  have hok := d_mulOk2 hv.fin hw.fin
  obtain ⟨s, c, q, e1, c1, q1⟩ := hv
  obtain ⟨t, d, r, e2, c2, q2⟩ := hw
  unfold dB
  show ∃ s' c' q', FP.Core.decode FP.Core.b64 (UInt64.ofNat (FP.Core.mul FP.Core.b64 v.toNat w.toNat)).toNat = .fin s' c' q' ∧ _
  rw [d_lt hok]
  unfold FP.Core.mul
  rw [e1, e2]
  have hm : c * d < 2 ^ 106 := by
    have : c * d < 9007199254740992 * 9007199254740992 := Nat.mul_lt_mul'' c1 c2
    exact this
  exact d_rrB (s := s != t) (A := c * d) (a := 106) (e := q + r) (k := k + l + 55) hm (by omega)
theorem dB.v {i : Int} (h : i.natAbs < 9007199254740992) : dB (dV i) 0 := by
  unfold dB
  rw [d_vN h]
  unfold dN
  by_cases h0 : i = 0
  · rw [if_pos h0]
    exact ⟨_, _, _, rfl, by omega, by omega⟩
  · rw [if_neg h0]
    have := d_log (A := i.natAbs) (by omega) h
    exact ⟨_, _, _, rfl, this.2.2, by unfold dQ; omega⟩
