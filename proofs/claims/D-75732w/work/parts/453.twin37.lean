/-! part 453: the twin: its making, whole -/
def iF0 : List Value := [.int 0, .null, .null, .null, .int 0, .null, .null, .null, .null, .int 0, .null, .null, .int 0, .int 0, .int 0, .int 0, .int 0, .int 0, .int 0, .int 0, .int 0, .int 0, .null, .null, .int 0]
def iI : Nat → Int32 := fun k => if k = 18 then -Int32.ofNat 1 else Int32.ofNat 0
theorem t_init {Γ : Nat → Option Nat} {m : Nat} {h : xH} : fX3_init m Γ (iS h m iF0 (m + 1) []) (m + 1) = some (.inl (), tw m (va_up iI 4 (Int32.ofNat 0)) (va_up (fun _ _ => Int32.ofNat 0) 1 (pZero (fun _ => Int32.ofNat 0) 592)) (fun _ => 0) h, 11, 299739) := by
  have hT : iS h m [.int 0, .ref (m + 1), .ref (m + 2), .ref (m + 3), .int 0, .ref (m + 4), .ref (m + 5), .ref (m + 6), .ref (m + 7), .int 0, .ref (m + 8), .ref (m + 9), .int 0, .int 0, .int 0, .int 0, .int 0, .int 0, .int (-1), .int 0, .int 0, .int 0, .ref (m + 10), .ref (m + 11), .int 0] (m + 1) [(true, .inl (1, 592, .inl fun _ => 0)), (true, .inl (1, 592, .inl fun _ => 0)), (true, .inl (1, 4736, .inl fun _ => 0)), (true, .inl (1, 280000, .inl fun _ => 0)), (true, .inl (1, 5604, .inl fun _ => 0)), (true, .inl (1, 5604, .inl fun _ => 0)), (true, .inl (2, 1401, .inr (.inl fun _ => 0))), (true, .inl (0, 900, .inl fun _ => 0)), (true, .inl (1, 5, .inl fun _ => 0)), (true, .inl (1, 5, .inl fun _ => 0)), (true, .inl (0, 300, .inl fun _ => 0))] = tw m iI (fun _ _ => Int32.ofNat 0) (fun _ => 0) h := by
    funext q
    unfold iS tw
    by_cases h1 : q < m
    · rw [if_neg (by omega), if_pos (by omega), if_pos h1]
    · rw [if_neg h1]
      obtain ⟨j, rfl⟩ : ∃ j, q = m + j := ⟨q - m, by omega⟩
      rw [Nat.add_sub_cancel_left]
      match j with
      | 0 => rw [if_pos (by omega)]; rfl
      | j + 1 =>
        rw [if_neg (by omega), if_neg (by omega), show m + (j + 1) - (m + 1) = j by omega]
        match j with
        | 0 => rfl
        | 1 => rfl
        | 2 => rfl
        | 3 => rfl
        | 4 => rfl
        | 5 => rfl
        | 6 => rfl
        | 7 => rfl
        | 8 => rfl
        | 9 => rfl
        | 10 => rfl
        | j + 11 => rfl
  have e := t_begins (Γ := Γ) (n := m + 12) (m := m) (I := iI) (A := fun _ _ => Int32.ofNat 0) (S := fun _ => 0) (h := h)
  simp only [i_ofNat] at hT
  simp (disch := first | omega | (simp only [List.length_cons, List.length_nil, List.length_set, List.length_append, List.set_cons_zero, List.set_cons_succ] <;> omega)) only [fX3_init, xbind, xpure, iF0, i_ofNat, iS_arr, iS_put, List.nil_append, List.cons_append, List.set_cons_zero, List.set_cons_succ, va_rf, Nat.add_assoc, Nat.reduceAdd, hT, tw_sel, e]
