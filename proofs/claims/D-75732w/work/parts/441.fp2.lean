/-! part 441: doubles: conversions of whole numbers, sums and quotients that are numbers -/
/-- the datum of the whole number i -/
def dN (i : Int) : FP.Core.Datum := if i = 0 then .fin false 0 (-1074) else .fin (decide (i < 0)) (dC i.natAbs) (dQ i.natAbs)
theorem d_lt {n : Nat} (h : dOk n) : (UInt64.ofNat n).toNat = n := UInt64.toNat_ofNat_of_lt' (by simpa using h.1)
theorem d_rnd (d : FP.Core.Datum) (h : d ≠ .nan) : dOk (FP.Core.encode FP.Core.b64 (FP.Core.round FP.Core.b64 d)) := by
  cases d with
  | nan => exact absurd rfl h
  | inf s =>
    show dOk (FP.Core.assemble FP.Core.b64 s (FP.Core.b64.exps - 1) 0)
    exact d_asm (Or.inr ⟨by rw [d_e], rfl⟩) (by omega)
  | fin s c q => exact d_rr s c 1 q
theorem d_ofInt {i : Int} (h : i.natAbs < 9007199254740992) : FP.Core.decode FP.Core.b64 (FP.Core.fromInt FP.Core.b64 i) = dN i := by
  unfold FP.Core.fromInt FP.Core.ofInt dN
  by_cases h0 : i = 0
  · subst h0
    decide
  · rw [if_neg h0]
    show FP.Core.decode FP.Core.b64 (FP.Core.encode FP.Core.b64 (FP.Core.roundRatio FP.Core.b64 (decide (i < 0)) i.natAbs 1 0)) = _
    rw [d_round (by omega) h, d_dec (by omega) h]
theorem d_fiOk (i : Int) : dOk (FP.Core.fromInt FP.Core.b64 i) := d_rnd (FP.Core.ofInt i) (by intro h; cases h)
theorem d_i2d (a : Int32) : FP.Core.decode FP.Core.b64 (FP.i2d a).toNat = dN a.toInt := by
  show FP.Core.decode FP.Core.b64 (UInt64.ofNat (FP.Core.fromInt FP.Core.b64 a.toInt)).toNat = _
  rw [d_lt (d_fiOk _)]
  have h1 := Int32.le_toInt a
  have h2 := Int32.toInt_lt a
  exact d_ofInt (by omega)
theorem d_l2d {a : Int64} (h : a.toInt.natAbs < 9007199254740992) : FP.Core.decode FP.Core.b64 (FP.l2d a).toNat = dN a.toInt := by
  show FP.Core.decode FP.Core.b64 (UInt64.ofNat (FP.Core.fromInt FP.Core.b64 a.toInt)).toNat = _
  rw [d_lt (d_fiOk _)]
  exact d_ofInt h
/-- v is a number or an infinity -/
def dNum (v : UInt64) : Prop := FP.Core.decode FP.Core.b64 v.toNat ≠ .nan
def dFin (v : UInt64) : Prop := ∃ s c q, FP.Core.decode FP.Core.b64 v.toNat = .fin s c q
def dNz (v : UInt64) : Prop := ∃ s c q, FP.Core.decode FP.Core.b64 v.toNat = .fin s c q ∧ c ≠ 0
theorem d_dN (i : Int) : ∃ s c q, dN i = .fin s c q := by
  unfold dN
  split
  · exact ⟨_, _, _, rfl⟩
  · exact ⟨_, _, _, rfl⟩
theorem dFin.i2d (a : Int32) : dFin (FP.i2d a) := by
  unfold dFin
  rw [d_i2d]
  exact d_dN _
theorem dFin.l2d {a : Int64} (h : a.toInt.natAbs < 9007199254740992) : dFin (FP.l2d a) := by
  unfold dFin
  rw [d_l2d h]
  exact d_dN _
theorem dNz.i2d {a : Int32} (h : a.toInt ≠ 0) : dNz (FP.i2d a) := by
  unfold dNz
  rw [d_i2d]
  unfold dN
  rw [if_neg h]
  have h1 := Int32.le_toInt a
  have h2 := Int32.toInt_lt a
  have := d_log (A := a.toInt.natAbs) (by omega) (by omega)
  exact ⟨_, _, _, rfl, by omega⟩
theorem dNz.l2d {a : Int64} (h : a.toInt.natAbs < 9007199254740992) (h0 : a.toInt ≠ 0) : dNz (FP.l2d a) := by
  unfold dNz
  rw [d_l2d h]
  unfold dN
  rw [if_neg h0]
  have := d_log (A := a.toInt.natAbs) (by omega) (by omega)
  exact ⟨_, _, _, rfl, by omega⟩
theorem dNz.fin {v : UInt64} (h : dNz v) : dFin v := by
  obtain ⟨s, c, q, h, -⟩ := h
  exact ⟨s, c, q, h⟩
theorem dFin.num {v : UInt64} (h : dFin v) : dNum v := by
  obtain ⟨s, c, q, h⟩ := h
  unfold dNum
  rw [h]
  intro h
  cases h
theorem dOk.dec {n : Nat} (h : dOk n) : FP.Core.decode FP.Core.b64 n ≠ .nan := by
  obtain ⟨h1, h2⟩ := h
  unfold FP.Core.decode FP.Core.fieldE FP.Core.fieldT FP.Core.fieldS
  rw [d_t, d_e, d_qmin]
  split
  · rw [if_pos (by omega)]
    intro h
    cases h
  · split
    · intro h
      cases h
    · intro h
      cases h
theorem dOk.num {n : Nat} (h : dOk n) : dNum (UInt64.ofNat n) := by
  unfold dNum
  rw [d_lt h]
  exact h.dec
theorem d_addOk {v w : UInt64} (hv : dNum v) (hw : dFin w) : dOk (FP.Core.add FP.Core.b64 v.toNat w.toNat) := by
  obtain ⟨s, c, q, hw⟩ := hw
  unfold FP.Core.add
  refine d_rnd _ ?_
  rw [hw]
  unfold dNum at hv
  generalize FP.Core.decode FP.Core.b64 v.toNat = x at hv
  cases x with
  | nan => exact absurd rfl hv
  | inf s => intro h; cases h
  | fin s c q => intro h; cases h
theorem d_subOk {v w : UInt64} (hv : dNum v) (hw : dFin w) : dOk (FP.Core.sub FP.Core.b64 v.toNat w.toNat) := by
  obtain ⟨s, c, q, hw⟩ := hw
  unfold FP.Core.sub
  refine d_rnd _ ?_
  rw [hw]
  unfold dNum at hv
  generalize FP.Core.decode FP.Core.b64 v.toNat = x at hv
  cases x with
  | nan => exact absurd rfl hv
  | inf s => intro h; cases h
  | fin s c q => intro h; cases h
theorem d_mulOk {v w : UInt64} (hv : dNum v) (hw : dNz w) : dOk (FP.Core.mul FP.Core.b64 v.toNat w.toNat) := by
  obtain ⟨s, c, q, hw, h0⟩ := hw
  unfold FP.Core.mul
  refine d_rnd _ ?_
  rw [hw]
  unfold dNum at hv
  generalize FP.Core.decode FP.Core.b64 v.toNat = x at hv
  cases x with
  | nan => exact absurd rfl hv
  | inf s =>
    show (if c = 0 then FP.Core.Datum.nan else _) ≠ _
    rw [if_neg h0]
    intro h
    cases h
  | fin s c q => intro h; cases h
theorem d_mulOk2 {v w : UInt64} (hv : dFin v) (hw : dFin w) : dOk (FP.Core.mul FP.Core.b64 v.toNat w.toNat) := by
  obtain ⟨s, c, q, hw⟩ := hw
  obtain ⟨s2, c2, q2, hv⟩ := hv
  unfold FP.Core.mul
  refine d_rnd _ ?_
  rw [hw, hv]
  intro h
  cases h
theorem d_divOk {v w : UInt64} (hv : dNum v) (hw : dNz w) : dOk (FP.Core.div FP.Core.b64 v.toNat w.toNat) := by
  obtain ⟨t, d, r, hw, h0⟩ := hw
  unfold FP.Core.div
  rw [hw]
  unfold dNum at hv
  generalize FP.Core.decode FP.Core.b64 v.toNat = x at hv
  cases x with
  | nan => exact absurd rfl hv
  | inf s =>
    show dOk (FP.Core.assemble FP.Core.b64 _ (FP.Core.b64.exps - 1) 0)
    exact d_asm (Or.inr ⟨by rw [d_e], rfl⟩) (by omega)
  | fin s c q =>
    show dOk (FP.Core.encode FP.Core.b64 (if d = 0 then _ else _))
    rw [if_neg h0]
    exact d_rr _ c d _
theorem x_dadd {α : Type} {v w : UInt64} {k : xM α} (hv : dNum v) (hw : dFin w) : xnan (FP.dadd v w) k = k := x_nan (d_addOk hv hw)
theorem x_dsub {α : Type} {v w : UInt64} {k : xM α} (hv : dNum v) (hw : dFin w) : xnan (FP.dsub v w) k = k := x_nan (d_subOk hv hw)
theorem x_dmul {α : Type} {v w : UInt64} {k : xM α} (hv : dNum v) (hw : dNz w) : xnan (FP.dmul v w) k = k := x_nan (d_mulOk hv hw)
theorem x_dmul2 {α : Type} {v w : UInt64} {k : xM α} (hv : dFin v) (hw : dFin w) : xnan (FP.dmul v w) k = k := x_nan (d_mulOk2 hv hw)
theorem x_ddiv {α : Type} {v w : UInt64} {k : xM α} (hv : dNum v) (hw : dNz w) : xnan (FP.ddiv v w) k = k := x_nan (d_divOk hv hw)
theorem dNum.add {v w : UInt64} (hv : dNum v) (hw : dFin w) : dNum (FP.dadd v w) := (d_addOk hv hw).num
theorem dNum.sub {v w : UInt64} (hv : dNum v) (hw : dFin w) : dNum (FP.dsub v w) := (d_subOk hv hw).num
theorem dNum.mul {v w : UInt64} (hv : dNum v) (hw : dNz w) : dNum (FP.dmul v w) := (d_mulOk hv hw).num
theorem dNum.div {v w : UInt64} (hv : dNum v) (hw : dNz w) : dNum (FP.ddiv v w) := (d_divOk hv hw).num
