/-! part 410: the twin in the heap: its object at m, its arrays behind it; printed by a program -/
set_option maxRecDepth 100000
def twF (m : Nat) (I : Nat → Int32) : List Value := [.int (I 0), .ref (m + 1), .ref (m + 2), .ref (m + 3), .int (I 4), .ref (m + 4), .ref (m + 5), .ref (m + 6), .ref (m + 7), .int (I 9), .ref (m + 8), .ref (m + 9), .int (I 12), .int (I 13), .int (I 14), .int (I 15), .int (I 16), .int (I 17), .int (I 18), .int (I 19), .int (I 20), .int (I 21), .ref (m + 10), .ref (m + 11), .int (I 24)]
/-- the twin: its numbers I, its arrays A (by their places behind m), its stack S; all else as in h -/
def tw (m : Nat) (I : Nat → Int32) (A : Nat → Nat → Int32) (S : Nat → Int64) (h : xH) : xH := fun q => if q < m then h q else match q - m with
  | 0 => some (true, .inr (39, twF m I))
  | 1 => some (true, .inl (1, 592, .inl (A 1)))
  | 2 => some (true, .inl (1, 592, .inl (A 2)))
  | 3 => some (true, .inl (1, 4736, .inl (A 3)))
  | 4 => some (true, .inl (1, 280000, .inl (A 4)))
  | 5 => some (true, .inl (1, 5604, .inl (A 5)))
  | 6 => some (true, .inl (1, 5604, .inl (A 6)))
  | 7 => some (true, .inl (2, 1401, .inr (.inl S)))
  | 8 => some (true, .inl (0, 900, .inl (A 8)))
  | 9 => some (true, .inl (1, 5, .inl (A 9)))
  | 10 => some (true, .inl (1, 5, .inl (A 10)))
  | 11 => some (true, .inl (0, 300, .inl (A 11)))
  | _ => h q
theorem va_ap {α : Type} (f : Nat → α) (k : Nat) (v : α) (j : Nat) : va_up f k v j = if j = k then v else f j := rfl
theorem va_uu {α : Type} (f : Nat → α) (k : Nat) (v w : α) : va_up (va_up f k v) k w = va_up f k w := by
  funext j
  simp only [va_ap]
  split <;> rfl
theorem va_id {α : Type} (f : Nat → α) (k : Nat) : va_up f k (f k) = f := by
  funext j
  rw [va_ap]
  split
  · rename_i q; rw [q]
  · rfl
section TWA
variable {Γ : Nat → Option Nat} {m n : Nat} {I : Nat → Int32} {A : Nat → Nat → Int32} {S : Nat → Int64} {h : xH}
theorem tw_0 : tw m I A S h m = some (true, .inr (39, twF m I)) := by unfold tw; rw [if_neg (by omega), Nat.sub_self]; rfl
theorem tw_1 : tw m I A S h (m + 1) = some (true, .inl (1, 592, .inl (A 1))) := by unfold tw; rw [if_neg (by omega), Nat.add_sub_cancel_left]; rfl
theorem tw_2 : tw m I A S h (m + 2) = some (true, .inl (1, 592, .inl (A 2))) := by unfold tw; rw [if_neg (by omega), Nat.add_sub_cancel_left]; rfl
theorem tw_3 : tw m I A S h (m + 3) = some (true, .inl (1, 4736, .inl (A 3))) := by unfold tw; rw [if_neg (by omega), Nat.add_sub_cancel_left]; rfl
theorem tw_4 : tw m I A S h (m + 4) = some (true, .inl (1, 280000, .inl (A 4))) := by unfold tw; rw [if_neg (by omega), Nat.add_sub_cancel_left]; rfl
theorem tw_5 : tw m I A S h (m + 5) = some (true, .inl (1, 5604, .inl (A 5))) := by unfold tw; rw [if_neg (by omega), Nat.add_sub_cancel_left]; rfl
theorem tw_6 : tw m I A S h (m + 6) = some (true, .inl (1, 5604, .inl (A 6))) := by unfold tw; rw [if_neg (by omega), Nat.add_sub_cancel_left]; rfl
theorem tw_7 : tw m I A S h (m + 7) = some (true, .inl (2, 1401, .inr (.inl S))) := by unfold tw; rw [if_neg (by omega), Nat.add_sub_cancel_left]; rfl
theorem tw_8 : tw m I A S h (m + 8) = some (true, .inl (0, 900, .inl (A 8))) := by unfold tw; rw [if_neg (by omega), Nat.add_sub_cancel_left]; rfl
theorem tw_9 : tw m I A S h (m + 9) = some (true, .inl (1, 5, .inl (A 9))) := by unfold tw; rw [if_neg (by omega), Nat.add_sub_cancel_left]; rfl
theorem tw_10 : tw m I A S h (m + 10) = some (true, .inl (1, 5, .inl (A 10))) := by unfold tw; rw [if_neg (by omega), Nat.add_sub_cancel_left]; rfl
theorem tw_11 : tw m I A S h (m + 11) = some (true, .inl (0, 300, .inl (A 11))) := by unfold tw; rw [if_neg (by omega), Nat.add_sub_cancel_left]; rfl
theorem tw_out {q : Nat} (hq : q < m ∨ m + 11 < q) : tw m I A S h q = h q := by
  unfold tw
  split
  · rfl
  · split <;> first | rfl | omega
theorem tw_obj : xobj (tw m I A S h) (some m) = some (m, 39, twF m I) := by unfold xobj; simp only [tw_0]
theorem tw_sel {α : Type} {f : Nat → xM α} : xsel (some m) [(39, f)] Γ (tw m I A S h) n = f m Γ (tw m I A S h) n := by
  unfold xsel
  rw [tw_obj]
  rfl
theorem tw_in (g : xH) {q : Nat} (h1 : m ≤ q) (h2 : q ≤ m + 11) : tw m I A S h q = tw m I A S g q := by
  obtain ⟨j, rfl, hj⟩ : ∃ j, q = m + j ∧ j ≤ 11 := ⟨q - m, by omega, by omega⟩
  unfold tw
  rw [if_neg (by omega), if_neg (by omega), Nat.add_sub_cancel_left]
  rcases j with _ | _ | _ | _ | _ | _ | _ | _ | _ | _ | _ | _ | j
  all_goals first | rfl | omega
theorem tw_ext {g : xH} (hx : ∀ q, m ≤ q → q ≤ m + 11 → g q = tw m I A S h q) : g = tw m I A S g := by
  funext q
  by_cases hq : m ≤ q ∧ q ≤ m + 11
  · rw [hx q hq.1 hq.2]
    exact tw_in g hq.1 hq.2
  · rw [tw_out (by omega)]
theorem tg_0 : xgI 39 0 (some m) Γ (tw m I A S h) n = some (.inl (I 0), tw m I A S h, 0, 0) := by unfold xgI xget; rw [tw_obj]; rfl
theorem tg_4 : xgI 39 4 (some m) Γ (tw m I A S h) n = some (.inl (I 4), tw m I A S h, 0, 0) := by unfold xgI xget; rw [tw_obj]; rfl
theorem tg_9 : xgI 39 9 (some m) Γ (tw m I A S h) n = some (.inl (I 9), tw m I A S h, 0, 0) := by unfold xgI xget; rw [tw_obj]; rfl
theorem tg_12 : xgI 39 12 (some m) Γ (tw m I A S h) n = some (.inl (I 12), tw m I A S h, 0, 0) := by unfold xgI xget; rw [tw_obj]; rfl
theorem tg_13 : xgI 39 13 (some m) Γ (tw m I A S h) n = some (.inl (I 13), tw m I A S h, 0, 0) := by unfold xgI xget; rw [tw_obj]; rfl
theorem tg_14 : xgI 39 14 (some m) Γ (tw m I A S h) n = some (.inl (I 14), tw m I A S h, 0, 0) := by unfold xgI xget; rw [tw_obj]; rfl
theorem tg_15 : xgI 39 15 (some m) Γ (tw m I A S h) n = some (.inl (I 15), tw m I A S h, 0, 0) := by unfold xgI xget; rw [tw_obj]; rfl
theorem tg_16 : xgI 39 16 (some m) Γ (tw m I A S h) n = some (.inl (I 16), tw m I A S h, 0, 0) := by unfold xgI xget; rw [tw_obj]; rfl
theorem tg_17 : xgI 39 17 (some m) Γ (tw m I A S h) n = some (.inl (I 17), tw m I A S h, 0, 0) := by unfold xgI xget; rw [tw_obj]; rfl
theorem tg_18 : xgI 39 18 (some m) Γ (tw m I A S h) n = some (.inl (I 18), tw m I A S h, 0, 0) := by unfold xgI xget; rw [tw_obj]; rfl
theorem tg_19 : xgI 39 19 (some m) Γ (tw m I A S h) n = some (.inl (I 19), tw m I A S h, 0, 0) := by unfold xgI xget; rw [tw_obj]; rfl
theorem tg_20 : xgI 39 20 (some m) Γ (tw m I A S h) n = some (.inl (I 20), tw m I A S h, 0, 0) := by unfold xgI xget; rw [tw_obj]; rfl
theorem tg_21 : xgI 39 21 (some m) Γ (tw m I A S h) n = some (.inl (I 21), tw m I A S h, 0, 0) := by unfold xgI xget; rw [tw_obj]; rfl
theorem tg_24 : xgI 39 24 (some m) Γ (tw m I A S h) n = some (.inl (I 24), tw m I A S h, 0, 0) := by unfold xgI xget; rw [tw_obj]; rfl
theorem tr_1 : xgR 39 1 (some m) Γ (tw m I A S h) n = some (.inl (some (m + 1)), tw m I A S h, 0, 0) := by unfold xgR xget; rw [tw_obj]; rfl
theorem tr_2 : xgR 39 2 (some m) Γ (tw m I A S h) n = some (.inl (some (m + 2)), tw m I A S h, 0, 0) := by unfold xgR xget; rw [tw_obj]; rfl
theorem tr_3 : xgR 39 3 (some m) Γ (tw m I A S h) n = some (.inl (some (m + 3)), tw m I A S h, 0, 0) := by unfold xgR xget; rw [tw_obj]; rfl
theorem tr_5 : xgR 39 5 (some m) Γ (tw m I A S h) n = some (.inl (some (m + 4)), tw m I A S h, 0, 0) := by unfold xgR xget; rw [tw_obj]; rfl
theorem tr_6 : xgR 39 6 (some m) Γ (tw m I A S h) n = some (.inl (some (m + 5)), tw m I A S h, 0, 0) := by unfold xgR xget; rw [tw_obj]; rfl
theorem tr_7 : xgR 39 7 (some m) Γ (tw m I A S h) n = some (.inl (some (m + 6)), tw m I A S h, 0, 0) := by unfold xgR xget; rw [tw_obj]; rfl
theorem tr_8 : xgR 39 8 (some m) Γ (tw m I A S h) n = some (.inl (some (m + 7)), tw m I A S h, 0, 0) := by unfold xgR xget; rw [tw_obj]; rfl
theorem tr_10 : xgR 39 10 (some m) Γ (tw m I A S h) n = some (.inl (some (m + 8)), tw m I A S h, 0, 0) := by unfold xgR xget; rw [tw_obj]; rfl
theorem tr_11 : xgR 39 11 (some m) Γ (tw m I A S h) n = some (.inl (some (m + 9)), tw m I A S h, 0, 0) := by unfold xgR xget; rw [tw_obj]; rfl
theorem tr_22 : xgR 39 22 (some m) Γ (tw m I A S h) n = some (.inl (some (m + 10)), tw m I A S h, 0, 0) := by unfold xgR xget; rw [tw_obj]; rfl
theorem tr_23 : xgR 39 23 (some m) Γ (tw m I A S h) n = some (.inl (some (m + 11)), tw m I A S h, 0, 0) := by unfold xgR xget; rw [tw_obj]; rfl
theorem tw_up0 {fs : List Value} {I2 : Nat → Int32} (hf : fs = twF m I2) : xupd (tw m I A S h) m (true, .inr (39, fs)) = tw m I2 A S h := by
  subst hf
  funext q
  unfold xupd
  by_cases hq : q = m
  · subst hq
    rw [if_pos rfl, tw_0]
  · rw [if_neg hq]
    unfold tw
    split
    · rfl
    · have : q - m ≠ 0 := by omega
      split <;> first | rfl | omega
theorem tp_0 {v : Int32} : xput 39 0 (some m) (.int v) Γ (tw m I A S h) n = some (.inl (), tw m (va_up I 0 v) A S h, 0, 0) := by
  unfold xput
  simp only [tw_0]
  rw [if_pos ⟨trivial, by simp [twF]⟩, tw_up0 (I2 := va_up I 0 v)]
  simp [twF, va_ap]
theorem tp_4 {v : Int32} : xput 39 4 (some m) (.int v) Γ (tw m I A S h) n = some (.inl (), tw m (va_up I 4 v) A S h, 0, 0) := by
  unfold xput
  simp only [tw_0]
  rw [if_pos ⟨trivial, by simp [twF]⟩, tw_up0 (I2 := va_up I 4 v)]
  simp [twF, va_ap]
theorem tp_9 {v : Int32} : xput 39 9 (some m) (.int v) Γ (tw m I A S h) n = some (.inl (), tw m (va_up I 9 v) A S h, 0, 0) := by
  unfold xput
  simp only [tw_0]
  rw [if_pos ⟨trivial, by simp [twF]⟩, tw_up0 (I2 := va_up I 9 v)]
  simp [twF, va_ap]
theorem tp_12 {v : Int32} : xput 39 12 (some m) (.int v) Γ (tw m I A S h) n = some (.inl (), tw m (va_up I 12 v) A S h, 0, 0) := by
  unfold xput
  simp only [tw_0]
  rw [if_pos ⟨trivial, by simp [twF]⟩, tw_up0 (I2 := va_up I 12 v)]
  simp [twF, va_ap]
theorem tp_13 {v : Int32} : xput 39 13 (some m) (.int v) Γ (tw m I A S h) n = some (.inl (), tw m (va_up I 13 v) A S h, 0, 0) := by
  unfold xput
  simp only [tw_0]
  rw [if_pos ⟨trivial, by simp [twF]⟩, tw_up0 (I2 := va_up I 13 v)]
  simp [twF, va_ap]
theorem tp_14 {v : Int32} : xput 39 14 (some m) (.int v) Γ (tw m I A S h) n = some (.inl (), tw m (va_up I 14 v) A S h, 0, 0) := by
  unfold xput
  simp only [tw_0]
  rw [if_pos ⟨trivial, by simp [twF]⟩, tw_up0 (I2 := va_up I 14 v)]
  simp [twF, va_ap]
theorem tp_15 {v : Int32} : xput 39 15 (some m) (.int v) Γ (tw m I A S h) n = some (.inl (), tw m (va_up I 15 v) A S h, 0, 0) := by
  unfold xput
  simp only [tw_0]
  rw [if_pos ⟨trivial, by simp [twF]⟩, tw_up0 (I2 := va_up I 15 v)]
  simp [twF, va_ap]
theorem tp_16 {v : Int32} : xput 39 16 (some m) (.int v) Γ (tw m I A S h) n = some (.inl (), tw m (va_up I 16 v) A S h, 0, 0) := by
  unfold xput
  simp only [tw_0]
  rw [if_pos ⟨trivial, by simp [twF]⟩, tw_up0 (I2 := va_up I 16 v)]
  simp [twF, va_ap]
theorem tp_17 {v : Int32} : xput 39 17 (some m) (.int v) Γ (tw m I A S h) n = some (.inl (), tw m (va_up I 17 v) A S h, 0, 0) := by
  unfold xput
  simp only [tw_0]
  rw [if_pos ⟨trivial, by simp [twF]⟩, tw_up0 (I2 := va_up I 17 v)]
  simp [twF, va_ap]
theorem tp_18 {v : Int32} : xput 39 18 (some m) (.int v) Γ (tw m I A S h) n = some (.inl (), tw m (va_up I 18 v) A S h, 0, 0) := by
  unfold xput
  simp only [tw_0]
  rw [if_pos ⟨trivial, by simp [twF]⟩, tw_up0 (I2 := va_up I 18 v)]
  simp [twF, va_ap]
theorem tp_19 {v : Int32} : xput 39 19 (some m) (.int v) Γ (tw m I A S h) n = some (.inl (), tw m (va_up I 19 v) A S h, 0, 0) := by
  unfold xput
  simp only [tw_0]
  rw [if_pos ⟨trivial, by simp [twF]⟩, tw_up0 (I2 := va_up I 19 v)]
  simp [twF, va_ap]
theorem tp_20 {v : Int32} : xput 39 20 (some m) (.int v) Γ (tw m I A S h) n = some (.inl (), tw m (va_up I 20 v) A S h, 0, 0) := by
  unfold xput
  simp only [tw_0]
  rw [if_pos ⟨trivial, by simp [twF]⟩, tw_up0 (I2 := va_up I 20 v)]
  simp [twF, va_ap]
theorem tp_21 {v : Int32} : xput 39 21 (some m) (.int v) Γ (tw m I A S h) n = some (.inl (), tw m (va_up I 21 v) A S h, 0, 0) := by
  unfold xput
  simp only [tw_0]
  rw [if_pos ⟨trivial, by simp [twF]⟩, tw_up0 (I2 := va_up I 21 v)]
  simp [twF, va_ap]
theorem tp_24 {v : Int32} : xput 39 24 (some m) (.int v) Γ (tw m I A S h) n = some (.inl (), tw m (va_up I 24 v) A S h, 0, 0) := by
  unfold xput
  simp only [tw_0]
  rw [if_pos ⟨trivial, by simp [twF]⟩, tw_up0 (I2 := va_up I 24 v)]
  simp [twF, va_ap]
theorem tpN_9 {v : Int32} (hv : narrow .boolean (.int v) = .int v ∧ fits .boolean (.int v) = true) : xpN 39 9 .boolean (some m) v Γ (tw m I A S h) n = some (.inl (), tw m (va_up I 9 v) A S h, 0, 0) := by
  unfold xpN
  rw [if_pos hv, tp_9]
theorem tl_1 {i : Nat} (hi : i < 592) : xldI 1 (some (m + 1)) (Int32.ofNat i) Γ (tw m I A S h) n = some (.inl (A 1 i), tw m I A S h, 0, 0) := by
  have h1 : i < 2147483648 := by omega
  unfold xldI xarr
  simp only [tw_1]
  rw [if_pos ⟨trivial, by rw [i_nat h1]; rintro (q | q); exact i_nonneg h1 q; omega⟩, i_nat h1]
theorem ts_1 {i : Nat} {v : Int32} (hi : i < 592) : xstI 1 (some (m + 1)) (Int32.ofNat i) v Γ (tw m I A S h) n = some (.inl (), tw m I (va_up A 1 (va_up (A 1) i v)) S h, 0, 0) := by
  have h1 : i < 2147483648 := by omega
  unfold xstI
  simp only [tw_1]
  rw [if_pos ⟨trivial, by rw [i_nat h1]; rintro (q | q); exact i_nonneg h1 q; omega⟩, i_nat h1]
  congr 3
  funext q
  unfold xupd
  by_cases hq : q = m + 1
  · subst hq
    rw [if_pos rfl, tw_1, va_ap, if_pos rfl]
  · rw [if_neg hq]
    unfold tw
    split
    · rfl
    · have : q - m ≠ 1 := by omega
      split <;> first | rfl | (simp [va_ap]; done) | omega
theorem tl_2 {i : Nat} (hi : i < 592) : xldI 1 (some (m + 2)) (Int32.ofNat i) Γ (tw m I A S h) n = some (.inl (A 2 i), tw m I A S h, 0, 0) := by
  have h1 : i < 2147483648 := by omega
  unfold xldI xarr
  simp only [tw_2]
  rw [if_pos ⟨trivial, by rw [i_nat h1]; rintro (q | q); exact i_nonneg h1 q; omega⟩, i_nat h1]
theorem ts_2 {i : Nat} {v : Int32} (hi : i < 592) : xstI 1 (some (m + 2)) (Int32.ofNat i) v Γ (tw m I A S h) n = some (.inl (), tw m I (va_up A 2 (va_up (A 2) i v)) S h, 0, 0) := by
  have h1 : i < 2147483648 := by omega
  unfold xstI
  simp only [tw_2]
  rw [if_pos ⟨trivial, by rw [i_nat h1]; rintro (q | q); exact i_nonneg h1 q; omega⟩, i_nat h1]
  congr 3
  funext q
  unfold xupd
  by_cases hq : q = m + 2
  · subst hq
    rw [if_pos rfl, tw_2, va_ap, if_pos rfl]
  · rw [if_neg hq]
    unfold tw
    split
    · rfl
    · have : q - m ≠ 2 := by omega
      split <;> first | rfl | (simp [va_ap]; done) | omega
theorem tl_3 {i : Nat} (hi : i < 4736) : xldI 1 (some (m + 3)) (Int32.ofNat i) Γ (tw m I A S h) n = some (.inl (A 3 i), tw m I A S h, 0, 0) := by
  have h1 : i < 2147483648 := by omega
  unfold xldI xarr
  simp only [tw_3]
  rw [if_pos ⟨trivial, by rw [i_nat h1]; rintro (q | q); exact i_nonneg h1 q; omega⟩, i_nat h1]
theorem ts_3 {i : Nat} {v : Int32} (hi : i < 4736) : xstI 1 (some (m + 3)) (Int32.ofNat i) v Γ (tw m I A S h) n = some (.inl (), tw m I (va_up A 3 (va_up (A 3) i v)) S h, 0, 0) := by
  have h1 : i < 2147483648 := by omega
  unfold xstI
  simp only [tw_3]
  rw [if_pos ⟨trivial, by rw [i_nat h1]; rintro (q | q); exact i_nonneg h1 q; omega⟩, i_nat h1]
  congr 3
  funext q
  unfold xupd
  by_cases hq : q = m + 3
  · subst hq
    rw [if_pos rfl, tw_3, va_ap, if_pos rfl]
  · rw [if_neg hq]
    unfold tw
    split
    · rfl
    · have : q - m ≠ 3 := by omega
      split <;> first | rfl | (simp [va_ap]; done) | omega
theorem tl_4 {i : Nat} (hi : i < 280000) : xldI 1 (some (m + 4)) (Int32.ofNat i) Γ (tw m I A S h) n = some (.inl (A 4 i), tw m I A S h, 0, 0) := by
  have h1 : i < 2147483648 := by omega
  unfold xldI xarr
  simp only [tw_4]
  rw [if_pos ⟨trivial, by rw [i_nat h1]; rintro (q | q); exact i_nonneg h1 q; omega⟩, i_nat h1]
theorem ts_4 {i : Nat} {v : Int32} (hi : i < 280000) : xstI 1 (some (m + 4)) (Int32.ofNat i) v Γ (tw m I A S h) n = some (.inl (), tw m I (va_up A 4 (va_up (A 4) i v)) S h, 0, 0) := by
  have h1 : i < 2147483648 := by omega
  unfold xstI
  simp only [tw_4]
  rw [if_pos ⟨trivial, by rw [i_nat h1]; rintro (q | q); exact i_nonneg h1 q; omega⟩, i_nat h1]
  congr 3
  funext q
  unfold xupd
  by_cases hq : q = m + 4
  · subst hq
    rw [if_pos rfl, tw_4, va_ap, if_pos rfl]
  · rw [if_neg hq]
    unfold tw
    split
    · rfl
    · have : q - m ≠ 4 := by omega
      split <;> first | rfl | (simp [va_ap]; done) | omega
theorem tl_5 {i : Nat} (hi : i < 5604) : xldI 1 (some (m + 5)) (Int32.ofNat i) Γ (tw m I A S h) n = some (.inl (A 5 i), tw m I A S h, 0, 0) := by
  have h1 : i < 2147483648 := by omega
  unfold xldI xarr
  simp only [tw_5]
  rw [if_pos ⟨trivial, by rw [i_nat h1]; rintro (q | q); exact i_nonneg h1 q; omega⟩, i_nat h1]
theorem ts_5 {i : Nat} {v : Int32} (hi : i < 5604) : xstI 1 (some (m + 5)) (Int32.ofNat i) v Γ (tw m I A S h) n = some (.inl (), tw m I (va_up A 5 (va_up (A 5) i v)) S h, 0, 0) := by
  have h1 : i < 2147483648 := by omega
  unfold xstI
  simp only [tw_5]
  rw [if_pos ⟨trivial, by rw [i_nat h1]; rintro (q | q); exact i_nonneg h1 q; omega⟩, i_nat h1]
  congr 3
  funext q
  unfold xupd
  by_cases hq : q = m + 5
  · subst hq
    rw [if_pos rfl, tw_5, va_ap, if_pos rfl]
  · rw [if_neg hq]
    unfold tw
    split
    · rfl
    · have : q - m ≠ 5 := by omega
      split <;> first | rfl | (simp [va_ap]; done) | omega
theorem tl_6 {i : Nat} (hi : i < 5604) : xldI 1 (some (m + 6)) (Int32.ofNat i) Γ (tw m I A S h) n = some (.inl (A 6 i), tw m I A S h, 0, 0) := by
  have h1 : i < 2147483648 := by omega
  unfold xldI xarr
  simp only [tw_6]
  rw [if_pos ⟨trivial, by rw [i_nat h1]; rintro (q | q); exact i_nonneg h1 q; omega⟩, i_nat h1]
theorem ts_6 {i : Nat} {v : Int32} (hi : i < 5604) : xstI 1 (some (m + 6)) (Int32.ofNat i) v Γ (tw m I A S h) n = some (.inl (), tw m I (va_up A 6 (va_up (A 6) i v)) S h, 0, 0) := by
  have h1 : i < 2147483648 := by omega
  unfold xstI
  simp only [tw_6]
  rw [if_pos ⟨trivial, by rw [i_nat h1]; rintro (q | q); exact i_nonneg h1 q; omega⟩, i_nat h1]
  congr 3
  funext q
  unfold xupd
  by_cases hq : q = m + 6
  · subst hq
    rw [if_pos rfl, tw_6, va_ap, if_pos rfl]
  · rw [if_neg hq]
    unfold tw
    split
    · rfl
    · have : q - m ≠ 6 := by omega
      split <;> first | rfl | (simp [va_ap]; done) | omega
theorem tl_7 {i : Nat} (hi : i < 1401) : xldJ 2 (some (m + 7)) (Int32.ofNat i) Γ (tw m I A S h) n = some (.inl (S i), tw m I A S h, 0, 0) := by
  have h1 : i < 2147483648 := by omega
  unfold xldJ xarr
  simp only [tw_7]
  rw [if_pos ⟨trivial, by rw [i_nat h1]; rintro (q | q); exact i_nonneg h1 q; omega⟩, i_nat h1]
theorem ts_7 {i : Nat} {v : Int64} (hi : i < 1401) : xstJ 2 (some (m + 7)) (Int32.ofNat i) v Γ (tw m I A S h) n = some (.inl (), tw m I A (va_up S i v) h, 0, 0) := by
  have h1 : i < 2147483648 := by omega
  unfold xstJ
  simp only [tw_7]
  rw [if_pos ⟨trivial, by rw [i_nat h1]; rintro (q | q); exact i_nonneg h1 q; omega⟩, i_nat h1]
  congr 3
  funext q
  unfold xupd
  by_cases hq : q = m + 7
  · subst hq
    rw [if_pos rfl, tw_7]
  · rw [if_neg hq]
    unfold tw
    split
    · rfl
    · have : q - m ≠ 7 := by omega
      split <;> first | rfl | omega
theorem tl_8 {i : Nat} (hi : i < 900) : xldI 0 (some (m + 8)) (Int32.ofNat i) Γ (tw m I A S h) n = some (.inl (A 8 i), tw m I A S h, 0, 0) := by
  have h1 : i < 2147483648 := by omega
  unfold xldI xarr
  simp only [tw_8]
  rw [if_pos ⟨trivial, by rw [i_nat h1]; rintro (q | q); exact i_nonneg h1 q; omega⟩, i_nat h1]
theorem ts_8 {i : Nat} {v : Int32} (hi : i < 900) : xstI 0 (some (m + 8)) (Int32.ofNat i) v Γ (tw m I A S h) n = some (.inl (), tw m I (va_up A 8 (va_up (A 8) i v)) S h, 0, 0) := by
  have h1 : i < 2147483648 := by omega
  unfold xstI
  simp only [tw_8]
  rw [if_pos ⟨trivial, by rw [i_nat h1]; rintro (q | q); exact i_nonneg h1 q; omega⟩, i_nat h1]
  congr 3
  funext q
  unfold xupd
  by_cases hq : q = m + 8
  · subst hq
    rw [if_pos rfl, tw_8, va_ap, if_pos rfl]
  · rw [if_neg hq]
    unfold tw
    split
    · rfl
    · have : q - m ≠ 8 := by omega
      split <;> first | rfl | (simp [va_ap]; done) | omega
theorem tl_9 {i : Nat} (hi : i < 5) : xldI 1 (some (m + 9)) (Int32.ofNat i) Γ (tw m I A S h) n = some (.inl (A 9 i), tw m I A S h, 0, 0) := by
  have h1 : i < 2147483648 := by omega
  unfold xldI xarr
  simp only [tw_9]
  rw [if_pos ⟨trivial, by rw [i_nat h1]; rintro (q | q); exact i_nonneg h1 q; omega⟩, i_nat h1]
theorem ts_9 {i : Nat} {v : Int32} (hi : i < 5) : xstI 1 (some (m + 9)) (Int32.ofNat i) v Γ (tw m I A S h) n = some (.inl (), tw m I (va_up A 9 (va_up (A 9) i v)) S h, 0, 0) := by
  have h1 : i < 2147483648 := by omega
  unfold xstI
  simp only [tw_9]
  rw [if_pos ⟨trivial, by rw [i_nat h1]; rintro (q | q); exact i_nonneg h1 q; omega⟩, i_nat h1]
  congr 3
  funext q
  unfold xupd
  by_cases hq : q = m + 9
  · subst hq
    rw [if_pos rfl, tw_9, va_ap, if_pos rfl]
  · rw [if_neg hq]
    unfold tw
    split
    · rfl
    · have : q - m ≠ 9 := by omega
      split <;> first | rfl | (simp [va_ap]; done) | omega
theorem tl_10 {i : Nat} (hi : i < 5) : xldI 1 (some (m + 10)) (Int32.ofNat i) Γ (tw m I A S h) n = some (.inl (A 10 i), tw m I A S h, 0, 0) := by
  have h1 : i < 2147483648 := by omega
  unfold xldI xarr
  simp only [tw_10]
  rw [if_pos ⟨trivial, by rw [i_nat h1]; rintro (q | q); exact i_nonneg h1 q; omega⟩, i_nat h1]
theorem ts_10 {i : Nat} {v : Int32} (hi : i < 5) : xstI 1 (some (m + 10)) (Int32.ofNat i) v Γ (tw m I A S h) n = some (.inl (), tw m I (va_up A 10 (va_up (A 10) i v)) S h, 0, 0) := by
  have h1 : i < 2147483648 := by omega
  unfold xstI
  simp only [tw_10]
  rw [if_pos ⟨trivial, by rw [i_nat h1]; rintro (q | q); exact i_nonneg h1 q; omega⟩, i_nat h1]
  congr 3
  funext q
  unfold xupd
  by_cases hq : q = m + 10
  · subst hq
    rw [if_pos rfl, tw_10, va_ap, if_pos rfl]
  · rw [if_neg hq]
    unfold tw
    split
    · rfl
    · have : q - m ≠ 10 := by omega
      split <;> first | rfl | (simp [va_ap]; done) | omega
theorem tl_11 {i : Nat} (hi : i < 300) : xldI 0 (some (m + 11)) (Int32.ofNat i) Γ (tw m I A S h) n = some (.inl (A 11 i), tw m I A S h, 0, 0) := by
  have h1 : i < 2147483648 := by omega
  unfold xldI xarr
  simp only [tw_11]
  rw [if_pos ⟨trivial, by rw [i_nat h1]; rintro (q | q); exact i_nonneg h1 q; omega⟩, i_nat h1]
theorem ts_11 {i : Nat} {v : Int32} (hi : i < 300) : xstI 0 (some (m + 11)) (Int32.ofNat i) v Γ (tw m I A S h) n = some (.inl (), tw m I (va_up A 11 (va_up (A 11) i v)) S h, 0, 0) := by
  have h1 : i < 2147483648 := by omega
  unfold xstI
  simp only [tw_11]
  rw [if_pos ⟨trivial, by rw [i_nat h1]; rintro (q | q); exact i_nonneg h1 q; omega⟩, i_nat h1]
  congr 3
  funext q
  unfold xupd
  by_cases hq : q = m + 11
  · subst hq
    rw [if_pos rfl, tw_11, va_ap, if_pos rfl]
  · rw [if_neg hq]
    unfold tw
    split
    · rfl
    · have : q - m ≠ 11 := by omega
      split <;> first | rfl | (simp [va_ap]; done) | omega
end TWA
