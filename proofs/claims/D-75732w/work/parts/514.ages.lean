/-! part 514: numbers that are no larger than they should be; a stock's year and the twin's -/
theorem j_ofNat {a : Nat} (h : a < 2147483648) : (Int32.ofNat a).toInt64 = Int64.ofNat a := by
  rw [← Int64.toInt_inj, Int32.toInt_toInt64, i_toInt h, Int64.toInt_ofNat_of_lt (by omega)]
theorem j_mul (a b : Nat) : Int64.ofNat a * Int64.ofNat b = Int64.ofNat (a * b) := (Int64.ofNat_mul a b).symm
theorem j_add (a b : Nat) : Int64.ofNat a + Int64.ofNat b = Int64.ofNat (a + b) := (Int64.ofNat_add a b).symm
theorem j_toInt {a : Nat} (h : a < 9223372036854775808) : (Int64.ofNat a).toInt = (a : Int) := Int64.toInt_ofNat_of_lt h
theorem j_div {a b : Nat} (ha : a < 9223372036854775808) (hb : b < 9223372036854775808) : Int64.ofNat a / Int64.ofNat b = Int64.ofNat (a / b) := by
  have hc : a / b < 9223372036854775808 := Nat.lt_of_le_of_lt (Nat.div_le_self a b) ha
  rw [← Int64.toInt_inj, Int64.toInt_div, j_toInt ha, j_toInt hb, j_toInt hc, ← Int.ofNat_tdiv]
  generalize a / b = c at hc
  rw [Int.bmod_eq_of_le] <;> omega
theorem j_i32 (a : Nat) : (Int64.ofNat a).toInt32 = Int32.ofNat a := by
  simp
theorem pGone_nat {a b : Nat} (ha : a ≤ 1000000) (hb : b ≤ 1000) : pGone (Int32.ofNat a) (Int32.ofNat b) = Int32.ofNat (a * b / 1000) := by
  have h1 : a * b ≤ 1000000 * 1000 := Nat.mul_le_mul ha hb
  have h1000 : (1000 : Int64) = Int64.ofNat 1000 := rfl
  unfold pGone
  rw [j_ofNat (by omega), j_ofNat (by omega), j_mul, h1000, j_div (by omega) (by decide), j_i32]
theorem pGone_le {a b : Nat} (hb : b ≤ 1000) : a * b / 1000 ≤ a := by
  have : a * b ≤ a * 1000 := Nat.mul_le_mul_left a hb
  omega
/-- species s: cohorts, survival, fecundity, room are no larger than they should be -/
def bN (N : Nat → Int32) (s : Nat) : Prop := (∀ j, j < 13 → (nN (N (zI s (39 + j))) ∧ nn (N (zI s (39 + j))) ≤ 1000000) ∧ (nN (N (zI s (13 + j))) ∧ nn (N (zI s (13 + j))) ≤ 1000) ∧ (nN (N (zI s (26 + j))) ∧ nn (N (zI s (26 + j))) ≤ 9999)) ∧ nN (N (zI s 3)) ∧ nn (N (zI s 3)) ≤ 99999
theorem jmin_int (a b : Int64) : (jmin a b).toInt = min a.toInt b.toInt := by
  unfold jmin
  by_cases c : b < a
  · rw [if_pos (show (0 : Int32) < lg_cmp a b from j_gt.mpr c)]
    rw [Int64.lt_iff_toInt_lt] at c
    omega
  · rw [if_neg (show ¬ (0 : Int32) < lg_cmp a b from fun q => c (j_gt.mp q))]
    rw [Int64.lt_iff_toInt_lt] at c
    omega
theorem jmax_int (a b : Int64) : (jmax a b).toInt = max a.toInt b.toInt := by
  unfold jmax
  by_cases c : a < b
  · rw [if_pos (show lg_cmp a b < (0 : Int32) from j_lt.mpr c)]
    rw [Int64.lt_iff_toInt_lt] at c
    omega
  · rw [if_neg (show ¬ lg_cmp a b < (0 : Int32) from fun q => c (j_lt.mp q))]
    rw [Int64.lt_iff_toInt_lt] at c
    omega
theorem imax_int (a b : Int32) : (imax a b).toInt = max a.toInt b.toInt := by
  unfold imax
  split
  · rename_i c
    rw [Int32.lt_iff_toInt_lt] at c
    omega
  · rename_i c
    rw [Int32.lt_iff_toInt_lt] at c
    omega
theorem imin_int (a b : Int32) : (imin a b).toInt = min a.toInt b.toInt := by
  unfold imin
  split
  · rename_i c
    rw [Int32.lt_iff_toInt_lt] at c
    omega
  · rename_i c
    rw [Int32.lt_iff_toInt_lt] at c
    omega
theorem j_minmax {v : Nat} {d : Int32} (hv : v ≤ 1000000) : jmax 0 (jmin (Int64.ofNat v) d.toInt64) = jmin (Int64.ofNat v) (imax (Int32.ofNat 0) d).toInt64 := by
  have z0 : (0 : Int64).toInt = 0 := by decide
  have i0 : (Int32.ofNat 0).toInt = 0 := by decide
  rw [← Int64.toInt_inj, jmax_int, jmin_int, jmin_int, Int32.toInt_toInt64, Int32.toInt_toInt64, imax_int, j_toInt (by omega), z0, i0]
  omega
theorem jsum_congr {f g : Nat → Int64} : ∀ (k x : Nat), (∀ j, x ≤ j → j < x + k → f j = g j) → jsum f x k = jsum g x k := by
  intro k
  induction k with
  | zero => intro x _; rfl
  | succ k ih =>
    intro x hf
    rw [jsum, jsum, hf x (by omega) (by omega), ih (x + 1) (fun j a b => hf j (by omega) (by omega))]
theorem jsum_nat {f : Nat → Int64} {M : Nat} : ∀ (k x : Nat), (∀ j, x ≤ j → j < x + k → ∃ c, f j = Int64.ofNat c ∧ c ≤ M) → ∃ c, jsum f x k = Int64.ofNat c ∧ c ≤ k * M := by
  intro k
  induction k with
  | zero => intro x _; exact ⟨0, rfl, by omega⟩
  | succ k ih =>
    intro x hf
    obtain ⟨c, h1, h2⟩ := hf x (by omega) (by omega)
    obtain ⟨d, h3, h4⟩ := ih (x + 1) (fun j a b => hf j (by omega) (by omega))
    exact ⟨c + d, by rw [jsum, h1, h3, j_add], by rw [Nat.succ_mul]; omega⟩
theorem isum_nat {f : Nat → Int32} {M : Nat} : ∀ (k x : Nat), (∀ j, x ≤ j → j < x + k → ∃ c, f j = Int32.ofNat c ∧ c ≤ M) → ∃ c, isum f x k = Int32.ofNat c ∧ c ≤ k * M := by
  intro k
  induction k with
  | zero => intro x _; exact ⟨0, rfl, by omega⟩
  | succ k ih =>
    intro x hf
    obtain ⟨c, h1, h2⟩ := hf x (by omega) (by omega)
    obtain ⟨d, h3, h4⟩ := ih (x + 1) (fun j a b => hf j (by omega) (by omega))
    exact ⟨c + d, by rw [isum, h1, h3, i_add], by rw [Nat.succ_mul]; omega⟩
/-- the rows of species s as functions -/
def rC (N : Nat → Int32) (s : Nat) : Nat → Int32 := fun j => N (zI s (39 + j))
def rV (N : Nat → Int32) (s : Nat) : Nat → Int32 := fun j => N (zI s (13 + j))
def rF (N : Nat → Int32) (s : Nat) : Nat → Int32 := fun j => N (zI s (26 + j))
theorem kG_nat {N : Nat → Int32} {s j : Nat} (hb : bN N s) (h1 : 1 ≤ j) (h2 : j ≤ 12) : ∃ c, kG (rC N s) (rV N s) j = Int32.ofNat c ∧ c ≤ 1000000 := by
  obtain ⟨⟨a1, a2⟩, ⟨b1, b2⟩, -⟩ := hb.1 (j - 1) (by omega)
  unfold nN at a1 b1
  refine ⟨nn (N (zI s (39 + (j - 1)))) * nn (N (zI s (13 + (j - 1)))) / 1000, ?_, Nat.le_trans (pGone_le b2) a2⟩
  have := pGone_nat a2 b2
  rw [← a1, ← b1] at this
  exact this
theorem kBear_nat {N : Nat → Int32} {s j : Nat} (hb : bN N s) (h1 : 1 ≤ j) (h2 : j ≤ 12) : ∃ c, kBear (rC N s) (rV N s) (rF N s) j = Int64.ofNat c ∧ c ≤ 9999000000 := by
  obtain ⟨c, e, hc⟩ := kG_nat hb h1 h2
  obtain ⟨-, -, b1, b2⟩ := hb.1 j (by omega)
  unfold nN at b1
  refine ⟨c * nn (N (zI s (26 + j))), ?_, ?_⟩
  · unfold kBear
    rw [e]
    have := j_ofNat (a := nn (N (zI s (26 + j)))) (by omega)
    rw [← b1] at this
    unfold rF
    rw [this, j_ofNat (by omega), j_mul]
  · have := Nat.mul_le_mul hc b2
    omega
theorem kSh_pSh {N : Nat → Int32} {s o j : Nat} (h0 : 1 ≤ j) : pSh N s o 0 (zI s (39 + j)) = kSh (rC N s) (rV N s) o 0 j := by
  unfold pSh kSh rC rV
  by_cases c : j ≤ o
  · have e1 : zI s (39 + j) - 1 = zI s (39 + (j - 1)) := by unfold zI; omega
    have e2 : zI s (39 + j) - 27 = zI s (13 + (j - 1)) := by unfold zI; omega
    rw [if_pos (by unfold zI; omega), if_pos (by omega), e1, e2]
  · rw [if_neg (by unfold zI; omega), if_neg (by omega)]
theorem pAgC_coh {N : Nat → Int32} {s o j : Nat} (h0 : 1 ≤ j) (h : j ≤ 12) : pAgC N s o (zI s (39 + j)) = kSh (rC N s) (rV N s) o 0 j := by
  unfold pAgC
  rw [pLose_ne (by unfold zI; omega)]
  unfold pAgB pAgA
  rw [va_up_ne _ _ (by unfold zI; omega), va_up_ne _ _ (by unfold zI; omega), kSh_pSh h0]
theorem pAgC_ne {N : Nat → Int32} {s o j : Nat} (h4 : j ≠ zI s 4) (h9 : j ≠ zI s 9) (hc : j < zI s 39 ∨ zI s 51 < j) (ho : o ≤ 12) : pAgC N s o j = N j := by
  unfold pAgC
  rw [pLose_ne h4]
  unfold pAgB pAgA
  rw [va_up_ne _ _ h9, va_up_ne _ _ (by unfold zI at *; omega)]
  unfold pSh
  rw [if_neg (by unfold zI at *; omega)]
theorem pTot_agA {N : Nat → Int32} {s o : Nat} : pTot (pAgA N s o) s o = kU (rC N s) (rV N s) o := by
  unfold pTot kU
  rw [isum]
  have e0 : pAgA N s o (zI s (39 + 0)) = Int32.ofNat 0 := by unfold pAgA; rw [Nat.add_zero]; exact va_up_self _ _ _
  rw [e0, i_0add]
  refine isum_congr _ _ (fun j h1 h2 => ?_)
  unfold pAgA
  rw [va_up_ne _ _ (by unfold zI; omega), kSh_pSh h1]
  unfold kSh kG
  rw [if_pos (by omega)]
/-- a stock's year is the twin's -/
theorem kC_ages {N : Nat → Int32} {s o : Nat} (hb : bN N s) (ho : o ≤ 12) {j : Nat} (hj : j < 13) : kC (rC N s) (rV N s) (rF N s) o (N (zI s 3)) j = pAges N s o (zI s (39 + j)) := by
  unfold kC pAges pAgD
  by_cases c : j = 0
  · subst c
    rw [va_up_self, va_up_ne _ _ (by unfold zI; omega), Nat.add_zero, va_up_self]
    unfold kB
    congr 1
    have eb : jsum (pBears (pAgC N s o) s) 1 o = jsum (kBear (rC N s) (rV N s) (rF N s)) 1 o := by
      refine jsum_congr _ _ (fun j h1 h2 => ?_)
      unfold pBears kBear
      rw [pAgC_coh h1 (by omega), pAgC_ne (j := zI s (26 + j)) (by unfold zI; omega) (by unfold zI; omega) (Or.inl (by unfold zI; omega)) ho]
      unfold kSh
      rw [if_pos (by omega)]
      rfl
    have er : pAgC N s o (zI s 3) = N (zI s 3) := pAgC_ne (by unfold zI; omega) (by unfold zI; omega) (Or.inl (by unfold zI; omega)) ho
    obtain ⟨B, hB, hB2⟩ := jsum_nat (f := kBear (rC N s) (rV N s) (rF N s)) (M := 9999000000) o 1 (fun j h1 h2 => kBear_nat hb h1 (by omega))
    have hB3 : B ≤ 12 * 9999000000 := Nat.le_trans hB2 (Nat.mul_le_mul_right _ ho)
    unfold pBorn0 kBorn
    rw [er, eb, pTot_agA, hB]
    by_cases c : N (zI s 3) ≤ Int32.ofNat 0
    · rw [if_pos c, if_pos c]
    · rw [if_neg c, if_neg c]
      have em : ∃ v, jmin 1000000 (Int64.ofNat B / 1000) = Int64.ofNat v ∧ v ≤ 1000000 := by
        have h1000 : (1000 : Int64) = Int64.ofNat 1000 := rfl
        rw [h1000, j_div (by omega) (by decide)]
        unfold jmin
        split
        · rename_i hh
          rw [i_ofNat, j_gt, Int64.lt_iff_toInt_lt, j_toInt (by omega)] at hh
          have : (1000000 : Int64).toInt = 1000000 := by decide
          exact ⟨B / 1000, rfl, by omega⟩
        · exact ⟨1000000, rfl, Nat.le_refl _⟩
      obtain ⟨v, hv, hv2⟩ := em
      rw [hv]
      exact j_minmax hv2
  · rw [va_up_ne _ _ c, va_up_ne _ _ (by unfold zI; omega), va_up_ne _ _ (by unfold zI; omega), pAgC_coh (by omega) (by omega)]
