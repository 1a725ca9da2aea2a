/-! part 431: the twin: formatSpecies, formatLedger, closingUpTo -/
def pCo (c : Nat → Nat) : Nat → Nat → List Int32
  | _, 0 => []
  | x, k + 1 => (Int32.ofNat 32 :: pDig 16 (c x)) ++ pCo c (x + 1) k
theorem pCo_len (c : Nat → Nat) : ∀ (k x : Nat), (pCo c x k).length ≤ 17 * k := by
  intro k
  induction k with
  | zero => intro x; exact Nat.le_refl 0
  | succ k ih =>
    intro x
    have h1 := ih (x + 1)
    have h2 := pDig_len 16 (c x)
    unfold pCo
    simp only [List.cons_append, List.length_cons, List.length_append]
    omega
def pTail (t k : Nat) : List Int32 := [Int32.ofNat 32, Int32.ofNat 61] ++ pDig 16 t ++ (if k = 0 then [] else [Int32.ofNat 32, Int32.ofNat 42] ++ pDig 16 k)
section TW22
variable {Γ : Nat → Option Nat} {m n : Nat} {I : Nat → Int32} {A : Nat → Nat → Int32} {S : Nat → Int64} {h : xH} {T : Nat → Int32} {s o : Nat}
theorem t_num {v : Nat} {l : List Int32} (hv : v < 2147483648) (hl : l.length ≤ 284) : fX3_saysNumber 16 m (Int32.ofNat v) Γ (wS m I A S h T l) n = some (.inl (), wS m I A S h T (l ++ pDig 16 v), 0, 0) := t_saysNumber 16 v l (Nat.lt_of_lt_of_le hv (by decide)) hv (by omega) (by omega)
theorem t_formatSpecies_p38 (hs : s < 4) (ho : A 1 (zI s 1) = Int32.ofNat o) (ho' : o ≤ 12) {c : Nat → Nat} {t k : Nat} (hc : ∀ x, x ≤ o → A 1 (zI s (39 + x)) = Int32.ofNat (c x) ∧ c x < 2147483648) (ht : pTot (A 1) s o = Int32.ofNat t) (ht' : t < 2147483648) (hk : A 1 (zI s 4) = Int32.ofNat k) (hk' : k < 2147483648) : ∀ (r x fu : Nat) (l : List Int32), x + r = o + 1 → l.length + 17 * r ≤ 240 → r < fu →
    fX3_formatSpecies_p38 fu m (Int32.ofNat s) (Int32.ofNat x) Γ (wS m I A S h T l) n = some (.inl (Int32.ofNat (l ++ pCo c x r ++ pTail t k).length), wS m I A S h T (l ++ pCo c x r ++ pTail t k), 0, 0) := by
  have e0 : ∀ l, fX3_oldest m (Int32.ofNat s) Γ (wS m I A S h T l) n = some (.inl (Int32.ofNat o), wS m I A S h T l, 0, 0) := by
    intro l
    have e := t_oldest (Γ := Γ) (n := n) (m := m) (I := va_up I 24 (Int32.ofNat l.length)) (A := va_up A 11 (pWr T l)) (S := S) (h := h) hs
    rw [va_up_ne _ _ (show 1 ≠ 11 by omega), ho] at e
    exact e
  have e1 : ∀ l, fX3_totalOf m (Int32.ofNat s) Γ (wS m I A S h T l) n = some (.inl (Int32.ofNat t), wS m I A S h T l, 0, 0) := by
    intro l
    have e := t_totalOf (Γ := Γ) (n := n) (m := m) (I := va_up I 24 (Int32.ofNat l.length)) (A := va_up A 11 (pWr T l)) (S := S) (h := h) hs (by rw [va_up_ne _ _ (show 1 ≠ 11 by omega)]; exact ho) ho'
    rw [va_up_ne _ _ (show 1 ≠ 11 by omega), ht] at e
    exact e
  have e2 : ∀ l, fX3_of m (Int32.ofNat s) (Int32.ofNat 4) Γ (wS m I A S h T l) n = some (.inl (Int32.ofNat k), wS m I A S h T l, 0, 0) := by
    intro l
    have e := t_of (Γ := Γ) (n := n) (m := m) (I := va_up I 24 (Int32.ofNat l.length)) (A := va_up A 11 (pWr T l)) (S := S) (h := h) hs (show 4 < 132 by omega)
    rw [va_up_ne _ _ (show 1 ≠ 11 by omega), hk] at e
    exact e
  have e3 : ∀ l x, x ≤ o → fX3_cohortOf m (Int32.ofNat s) (Int32.ofNat x) Γ (wS m I A S h T l) n = some (.inl (Int32.ofNat (c x)), wS m I A S h T l, 0, 0) := by
    intro l x hx
    have e := t_cohortOf (Γ := Γ) (n := n) (m := m) (I := va_up I 24 (Int32.ofNat l.length)) (A := va_up A 11 (pWr T l)) (S := S) (h := h) hs (show x < 93 by omega)
    rw [va_up_ne _ _ (show 1 ≠ 11 by omega), (hc x hx).1] at e
    exact e
  have sel : ∀ {α : Type} (f : Nat → xM α) l, xsel (some m) [(39, f)] Γ (wS m I A S h T l) n = f m Γ (wS m I A S h T l) n := fun f l => tw_sel
  have sy : ∀ (b : Nat) (l : List Int32), b < 128 → l.length < 300 → fX3_says m (Int32.ofNat b) Γ (wS m I A S h T l) n = some (.inl (), wS m I A S h T (l ++ [Int32.ofNat b]), 0, 0) := fun b l h1 h2 => t_says h1 h2
  have nu : ∀ (v : Nat) (l : List Int32), v < 2147483648 → l.length ≤ 284 → fX3_saysNumber 16 m (Int32.ofNat v) Γ (wS m I A S h T l) n = some (.inl (), wS m I A S h T (l ++ pDig 16 v), 0, 0) := fun v l h1 h2 => t_num h1 h2
  have wr : ∀ l, xgI 39 24 (some m) Γ (wS m I A S h T l) n = some (.inl (Int32.ofNat l.length), wS m I A S h T l, 0, 0) := by
    intro l
    have := tg_24 (Γ := Γ) (m := m) (n := n) (I := va_up I 24 (Int32.ofNat l.length)) (A := va_up A 11 (pWr T l)) (S := S) (h := h)
    rw [va_up_self] at this
    exact this
  intro r
  induction r with
  | zero =>
    intro x fu l hx hl hf
    obtain ⟨fu, rfl⟩ : ∃ g, fu = g + 1 := ⟨fu - 1, by omega⟩
    have c1 : Int32.ofNat o < Int32.ofNat x := by rw [i_lt (by omega) (by omega)]; omega
    have d1 := pDig_len 16 t
    have s1 := sy 32 l (by omega) (by omega)
    have s2 := sy 61 (l ++ [Int32.ofNat 32]) (by omega) (by simp; omega)
    have s3 := nu t (l ++ [Int32.ofNat 32] ++ [Int32.ofNat 61]) ht' (by simp; omega)
    have lit : (Int32.ofNat k = Int32.ofNat 0) ↔ k = 0 := i_eq (by omega) (by omega)
    rw [fX3_formatSpecies_p38]
    by_cases ck : k = 0
    · have ck' := eq_true ck
      have lt := eq_true (lit.mpr ck)
      simp only [xbind, xlet, xpure, sel, i_ofNat, e0, c1, s1, s2, e1, s3, e2, lt, wr, Nat.add_zero, Nat.zero_add, reduceIte, if_true, pCo, List.append_nil, pTail, ck']
      simp only [List.append_assoc, List.cons_append, List.nil_append]
    · have lt : ¬ (Int32.ofNat k = Int32.ofNat 0) := fun q => ck (lit.mp q)
      have s4 := sy 32 (l ++ [Int32.ofNat 32] ++ [Int32.ofNat 61] ++ pDig 16 t) (by omega) (by simp; omega)
      have s5 := sy 42 (l ++ [Int32.ofNat 32] ++ [Int32.ofNat 61] ++ pDig 16 t ++ [Int32.ofNat 32]) (by omega) (by simp; omega)
      have s6 := nu k (l ++ [Int32.ofNat 32] ++ [Int32.ofNat 61] ++ pDig 16 t ++ [Int32.ofNat 32] ++ [Int32.ofNat 42]) hk' (by simp; omega)
      simp only [xbind, xlet, xpure, sel, i_ofNat, e0, c1, s1, s2, e1, s3, e2, lt, s4, s5, s6, wr, Nat.add_zero, Nat.zero_add, reduceIte, if_false, if_true, pCo, List.append_nil, pTail, ck]
      simp only [List.append_assoc, List.cons_append, List.nil_append]
  | succ r ih =>
    intro x fu l hx hl hf
    obtain ⟨fu, rfl⟩ : ∃ g, fu = g + 1 := ⟨fu - 1, by omega⟩
    have c1 : ¬ Int32.ofNat o < Int32.ofNat x := by rw [i_lt (by omega) (by omega)]; omega
    have d1 := pDig_len 16 (c x)
    have s1 := sy 32 l (by omega) (by omega)
    have s2 := nu (c x) (l ++ [Int32.ofNat 32]) (hc x (by omega)).2 (by simp; omega)
    have e4 := ih (x + 1) fu (l ++ [Int32.ofNat 32] ++ pDig 16 (c x)) (by omega) (by simp; omega) (by omega)
    rw [fX3_formatSpecies_p38]
    simp only [xbind, xlet, xpure, sel, i_ofNat, e0, c1, s1, e3 _ x (show x ≤ o by omega), s2, i_add, e4, Nat.add_zero, Nat.zero_add, reduceIte, if_false, pCo]
    simp only [List.append_assoc, List.cons_append, List.nil_append]
end TW22
