/-! part 542: isBalanced: int and long sums answer alike -/
theorem i32_add {a b : Int32} (h1 : -2147483648 ≤ a.toInt + b.toInt) (h2 : a.toInt + b.toInt < 2147483648) : (a + b).toInt = a.toInt + b.toInt := by
  rw [Int32.toInt_add, Int.bmod_eq_of_le] <;> omega
theorem i32_sub {a b : Int32} (h1 : -2147483648 ≤ a.toInt - b.toInt) (h2 : a.toInt - b.toInt < 2147483648) : (a - b).toInt = a.toInt - b.toInt := by
  rw [Int32.toInt_sub, Int.bmod_eq_of_le] <;> omega
theorem i64_add {a b : Int64} (h1 : -9223372036854775808 ≤ a.toInt + b.toInt) (h2 : a.toInt + b.toInt < 9223372036854775808) : (a + b).toInt = a.toInt + b.toInt := by
  rw [Int64.toInt_add, Int.bmod_eq_of_le] <;> omega
theorem i64_sub {a b : Int64} (h1 : -9223372036854775808 ≤ a.toInt - b.toInt) (h2 : a.toInt - b.toInt < 9223372036854775808) : (a - b).toInt = a.toInt - b.toInt := by
  rw [Int64.toInt_sub, Int.bmod_eq_of_le] <;> omega
theorem bI_64 {f : Nat → Int32} (hf : ∀ w, w < 6 → 0 ≤ (f w).toInt ∧ (f w).toInt ≤ 200000000) : bI f = decide (((((f 0).toInt64 + (f 1).toInt64) + (f 4).toInt64) - (f 2).toInt64) - (f 3).toInt64 = (f 5).toInt64) := by
  have a0 := hf 0 (by omega)
  have a1 := hf 1 (by omega)
  have a2 := hf 2 (by omega)
  have a3 := hf 3 (by omega)
  have a4 := hf 4 (by omega)
  have a5 := hf 5 (by omega)
  have u1 : (f 0 + f 1).toInt = (f 0).toInt + (f 1).toInt := i32_add (by omega) (by omega)
  have u2 : (f 0 + f 1 + f 4).toInt = (f 0).toInt + (f 1).toInt + (f 4).toInt := by rw [i32_add (by omega) (by omega), u1]
  have u3 : (f 0 + f 1 + f 4 - f 2).toInt = (f 0).toInt + (f 1).toInt + (f 4).toInt - (f 2).toInt := by rw [i32_sub (by omega) (by omega), u2]
  have u4 : (f 0 + f 1 + f 4 - f 2 - f 3).toInt = (f 0).toInt + (f 1).toInt + (f 4).toInt - (f 2).toInt - (f 3).toInt := by rw [i32_sub (by omega) (by omega), u3]
  have t : ∀ v : Int32, v.toInt64.toInt = v.toInt := fun v => Int32.toInt_toInt64 v
  have v1 : ((f 0).toInt64 + (f 1).toInt64).toInt = (f 0).toInt + (f 1).toInt := by rw [i64_add (by rw [t, t]; omega) (by rw [t, t]; omega), t, t]
  have v2 : ((f 0).toInt64 + (f 1).toInt64 + (f 4).toInt64).toInt = (f 0).toInt + (f 1).toInt + (f 4).toInt := by rw [i64_add (by rw [v1, t]; omega) (by rw [v1, t]; omega), v1, t]
  have v3 : ((f 0).toInt64 + (f 1).toInt64 + (f 4).toInt64 - (f 2).toInt64).toInt = (f 0).toInt + (f 1).toInt + (f 4).toInt - (f 2).toInt := by rw [i64_sub (by rw [v2, t]; omega) (by rw [v2, t]; omega), v2, t]
  have v4 : ((f 0).toInt64 + (f 1).toInt64 + (f 4).toInt64 - (f 2).toInt64 - (f 3).toInt64).toInt = (f 0).toInt + (f 1).toInt + (f 4).toInt - (f 2).toInt - (f 3).toInt := by rw [i64_sub (by rw [v3, t]; omega) (by rw [v3, t]; omega), v3, t]
  unfold bI
  congr 1
  apply propext
  rw [← Int32.toInt_inj, ← Int64.toInt_inj, u4, v4, t]
section BAL
variable {L N : Nat → Int32}
theorem cB_iff {s : Nat} : ∀ (d i : Nat), cB L N s i d = true ↔ ∀ j, i ≤ j → j < i + d → bI (pLP L N s j) = true ∧ (j = 0 ∨ pLP L N s j 0 = pLP L N s (j - 1) 5) := by
  intro d
  induction d with
  | zero => intro i; exact ⟨fun _ j h1 h2 => absurd h2 (by omega), fun _ => rfl⟩
  | succ d ih =>
    intro i
    rw [cB, Bool.and_eq_true, Bool.and_eq_true, Bool.or_eq_true, decide_eq_true_iff, decide_eq_true_iff, ih]
    constructor
    · rintro ⟨⟨h1, h2⟩, h3⟩ j j1 j2
      by_cases q : j = i
      · rw [q]; exact ⟨h1, h2⟩
      · exact h3 j (by omega) (by omega)
    · intro hh
      exact ⟨hh i (by omega) (by omega), fun j j1 j2 => hh j (by omega) (by omega)⟩
theorem pGoods_iff {s : Nat} : ∀ (k x : Nat) (b : Bool), pGoods L N s x k b = true ↔ b = true ∧ ∀ j, x ≤ j → j < x + k → pGood L N s j = true := by
  intro k
  induction k with
  | zero => intro x b; exact ⟨fun q => ⟨q, fun j h1 h2 => absurd h2 (by omega)⟩, fun q => q.1⟩
  | succ k ih =>
    intro x b
    rw [pGoods, ih, Bool.and_eq_true]
    constructor
    · rintro ⟨⟨h1, h2⟩, h3⟩
      refine ⟨h1, fun j j1 j2 => ?_⟩
      by_cases q : j = x
      · rw [q]; exact h2
      · exact h3 j (by omega) (by omega)
    · intro hh
      exact ⟨⟨hh.1, hh.2 x (by omega) (by omega)⟩, fun j j1 j2 => hh.2 j (by omega) (by omega)⟩
/-- all parts of all ledgers are small -/
def bL (L N : Nat → Int32) : Prop := ∀ s k w, s < nn (N 0) → k ≤ nn (N 2) → w < 6 → 0 ≤ (pLP L N s k w).toInt ∧ (pLP L N s k w).toInt ≤ 200000000
theorem cB_good {s : Nat} (hL : bL L N) (hs : s < nn (N 0)) (b : Bool) : pGoods L N s 0 (nn (N 2) + 1) b = (b && cB L N s 0 (nn (N 2) + 1)) := by
  rw [Bool.eq_iff_iff, pGoods_iff, Bool.and_eq_true, cB_iff]
  have e : ∀ j, j ≤ nn (N 2) → (pGood L N s j = true ↔ bI (pLP L N s j) = true ∧ (j = nn (N 2) ∨ pLP L N s j 5 = pLP L N s (j + 1) 0)) := by
    intro j hj
    unfold pGood
    rw [Bool.and_eq_true, Bool.or_eq_true, decide_eq_true_iff (p := j = nn (N 2)), decide_eq_true_iff (p := pLP L N s j 5 = pLP L N s (j + 1) 0), bI_64 (fun w hw => hL s j w hs hj hw)]
  refine and_congr_right (fun _ => ⟨fun hh j j1 j2 => ?_, fun hh j j1 j2 => ?_⟩)
  · refine ⟨((e j (by omega)).mp (hh j (by omega) (by omega))).1, ?_⟩
    by_cases q : j = 0
    · exact Or.inl q
    · rcases ((e (j - 1) (by omega)).mp (hh (j - 1) (by omega) (by omega))).2 with z | z
      · omega
      · rw [show j - 1 + 1 = j by omega] at z
        exact Or.inr z.symm
  · refine (e j (by omega)).mpr ⟨(hh j (by omega) (by omega)).1, ?_⟩
    by_cases q : j = nn (N 2)
    · exact Or.inl q
    · rcases (hh (j + 1) (by omega) (by omega)).2 with z | z
      · omega
      · exact Or.inr z.symm
theorem cA_good (hL : bL L N) : ∀ (d s : Nat) (b : Bool), s + d = nn (N 0) → pGoodA L N s d b = (b && cA L N s d) := by
  intro d
  induction d with
  | zero => intro s b _; rw [pGoodA, cA, Bool.and_true]
  | succ d ih =>
    intro s b hs
    rw [pGoodA, ih (s + 1) _ (by omega), cB_good hL (by omega), cA, Bool.and_assoc]
theorem bL_neg (hL : bL L N) : ∀ s k, s < nn (N 0) → k < nn (N 2) → ¬ pLP L N s k 5 = -Int32.ofNat 1 := by
  intro s k hs hk z
  have := hL s k 5 hs (by omega) (by omega)
  rw [z] at this
  have m : (-Int32.ofNat 1).toInt = -1 := by decide
  omega
end BAL
section KBC
variable {Γ : Nat → Option Nat} {x sd al ae pl : Nat} {E : Nat → Nat → Nat} {P FE M : Nat → Nat} {e ps V : Nat → Nat → Nat} {N L : Nat → Int32} {Z : Nat → Prop}
theorem k_isBalanced1 {n : Nat} {h : xH} (hL : bL L N) (hZ : ∀ s, s < nn (N 0) → Z (E s 4)) (hV : ∀ s i, s < nn (N 0) → i < nn (N 2) → ¬ Z (V s i)) (nit : ¬ Z n) (W : kW h x sd al ae pl E P FE N) (B : kBs h P M e ps V N L) (hb : xbd n h) : ∃ g dc ds, fX1_isBalanced x Γ h n = some (.inl (b2i (pGoodA L N 0 (nn (N 0)) true)), g, dc, ds) ∧ dc ≤ 9 ∧ ds ≤ 24 ∧ hq Z h g ∧ xbd (n + dc) g := by
  rw [cA_good hL (nn (N 0)) 0 true (by omega), Bool.true_and]
  exact k_isBalanced hZ hV nit (bL_neg hL) W B hb
end KBC
