/-! part 452: the twin: its making -/
def iS (h : xH) (a : Nat) (fs : List Value) (n : Nat) (cells : List xAC) : xH := fun q => if q = a then some (true, .inr (39, fs)) else if q < n then h q else match cells[q - n]? with
  | some c => some c
  | none => h q
theorem iS_new {h : xH} {a n n' : Nat} {fs : List Value} {cells : List xAC} {c : xAC} (ha : a < n) (hl : n' = n + cells.length) : xupd (iS h a fs n cells) n' c = iS h a fs n (cells ++ [c]) := by
  funext q
  unfold xupd iS
  by_cases h1 : q = n'
  · rw [if_pos h1, if_neg (by omega), if_neg (by omega), List.getElem?_append_right (by omega)]
    have : q - n - cells.length = 0 := by omega
    rw [this]
    rfl
  · rw [if_neg h1]
    by_cases h2 : q = a
    · rw [if_pos h2, if_pos h2]
    · rw [if_neg h2, if_neg h2]
      by_cases h3 : q < n
      · rw [if_pos h3, if_pos h3]
      · rw [if_neg h3, if_neg h3]
        by_cases h4 : q - n < cells.length
        · rw [List.getElem?_append_left h4]
        · rw [List.getElem?_eq_none (by omega), List.getElem?_eq_none (by simp only [List.length_append, List.length_cons, List.length_nil]; omega)]
theorem iS_put {Γ : Nat → Option Nat} {h : xH} {a n n' k : Nat} {fs : List Value} {cells : List xAC} {v : Value} (hk : k < fs.length) : xput 39 k (some a) v Γ (iS h a fs n cells) n' = some (.inl (), iS h a (fs.set k v) n cells, 0, 0) := by
  have e0 : iS h a fs n cells a = some (true, .inr (39, fs)) := by unfold iS; rw [if_pos rfl]
  unfold xput
  simp only [e0]
  rw [if_pos ⟨trivial, hk⟩]
  congr 3
  funext q
  unfold xupd iS
  by_cases h1 : q = a
  · rw [if_pos h1, if_pos h1]
  · rw [if_neg h1, if_neg h1, if_neg h1]
theorem iS_arr {Γ : Nat → Option Nat} {h : xH} {a n n' t c : Nat} {fs : List Value} {cells : List xAC} {x : Nat → vp_A} (ha : a < n) (hl : n' = n + cells.length) (hc : c ≤ 1000000) : xnewA t x (Int32.ofNat c) Γ (iS h a fs n cells) n' = some (.inl n', iS h a fs n (cells ++ [(true, .inl (t, x c))]), 1, c) := by
  unfold xnewA
  have h1 : (Int32.ofNat c).toNatClampNeg = c := i_nat (by omega)
  have h2 : ¬ Int32.ofNat c < 0 := by
    have q : (0 : Int32) = Int32.ofNat 0 := by decide
    rw [q, i_lt (by omega) (by decide)]
    exact Nat.not_lt_zero c
  rw [h1, if_pos ⟨h2, hc⟩, iS_new ha hl]
