/-! part 430: the twin: formatted text -/
def pWr (T : Nat → Int32) (l : List Int32) : Nat → Int32 := fun j => if j < l.length then l.getD j 0 else T j
theorem pWr_step {T : Nat → Int32} {l : List Int32} {c : Int32} : va_up (pWr T l) l.length c = pWr T (l ++ [c]) := by
  funext j
  rw [va_ap]
  unfold pWr
  by_cases hj : j = l.length
  · subst hj
    rw [if_pos rfl, if_pos (by simp)]
    simp
  · rw [if_neg hj]
    by_cases hl : j < l.length
    · rw [if_pos hl, if_pos (by simp; omega)]
      simp [List.getElem?_append_left hl]
    · rw [if_neg hl, if_neg (by simp; omega)]
theorem pWr_nil {T : Nat → Int32} : pWr T [] = T := by
  funext j
  unfold pWr
  rw [if_neg (by simp)]
theorem i_byte {c : Nat} (hc : c < 128) : (Int32.ofNat c).toInt8.toInt32 = Int32.ofNat c := by
  have H : ∀ x : Fin 128, (Int32.ofNat x.val).toInt8.toInt32 = Int32.ofNat x.val := by decide
  exact H ⟨c, hc⟩
theorem i_rem2 {v b : Nat} : Int32.ofNat v - Int32.ofNat (v / b * b) = Int32.ofNat (v % b) := by
  have h1 : v / b * b ≤ v := Nat.div_mul_le_self v b
  rw [i_sub h1]
  congr 1
  have := Nat.div_add_mod v b
  rw [Nat.mul_comm] at this
  omega
theorem i_rem {v b : Nat} (hv : v < 2147483648) (hb : b < 2147483648) : Int32.ofNat v - Int32.ofNat v / Int32.ofNat b * Int32.ofNat b = Int32.ofNat (v % b) := by
  have h1 : v / b * b ≤ v := Nat.div_mul_le_self v b
  rw [i_div hv hb, i_mul, i_sub h1]
  congr 1
  have := Nat.div_add_mod v b
  rw [Nat.mul_comm] at this
  omega
def pDig : Nat → Nat → List Int32
  | 0, _ => []
  | d + 1, v => (if v ≤ 9 then [] else pDig d (v / 10)) ++ [Int32.ofNat (48 + v % 10)]
/-- the number of a name whose letters are ds (1 to 26) -/
def pNc : List Nat → Nat
  | [] => 0
  | d :: ds => d + 27 * pNc ds
theorem pDig_len : ∀ (d v : Nat), (pDig d v).length ≤ d := by
  intro d
  induction d with
  | zero => intro v; exact Nat.le_refl 0
  | succ d ih =>
    intro v
    unfold pDig
    have := ih (v / 10)
    split <;> simp <;> omega
/-- the twin while it writes: l is written -/
abbrev wS (m : Nat) (I : Nat → Int32) (A : Nat → Nat → Int32) (S : Nat → Int64) (h : xH) (T : Nat → Int32) (l : List Int32) : xH := tw m (va_up I 24 (Int32.ofNat l.length)) (va_up A 11 (pWr T l)) S h
section TW21
variable {Γ : Nat → Option Nat} {m n : Nat} {I : Nat → Int32} {A : Nat → Nat → Int32} {S : Nat → Int64} {h : xH} {T : Nat → Int32}
theorem t_says {l : List Int32} {c : Nat} (hc : c < 128) (hl : l.length < 300) : fX3_says m (Int32.ofNat c) Γ (wS m I A S h T l) n = some (.inl (), wS m I A S h T (l ++ [Int32.ofNat c]), 0, 0) := by
  unfold wS
  simp (maxDischargeDepth := 9) only [fX3_says, xbind, xlet, xpure, tw_sel, tg_0, tg_4, tg_9, tg_12, tg_13, tg_14, tg_15, tg_16, tg_17, tg_18, tg_19, tg_20, tg_21, tg_24, tr_1, tr_2, tr_3, tr_5, tr_6, tr_7, tr_8, tr_10, tr_11, tr_22, tr_23, tp_0, tp_4, tp_9, tp_12, tp_13, tp_14, tp_15, tp_16, tp_17, tp_18, tp_19, tp_20, tp_21, tp_24, va_up_self, va_up_ne, va_uu, i_ofNat, i_add, i_mul, Nat.add_zero, Nat.zero_add, reduceIte, if_true, if_false, Nat.reduceEqDiff, ne_eq, not_false_eq_true, Nat.reduceEqDiff, not_true_eq_false, i_byte hc, ts_11 hl, pWr_step, List.length_append, List.length_cons, List.length_nil]
theorem t_saysNumber : ∀ (d v : Nat) (l : List Int32), v < 10 ^ d → v < 2147483648 → l.length + d ≤ 300 → 0 < d → fX3_saysNumber d m (Int32.ofNat v) Γ (wS m I A S h T l) n = some (.inl (), wS m I A S h T (l ++ pDig d v), 0, 0) := by
  intro d
  induction d with
  | zero => intro v l h1 h2 h3 h4; omega
  | succ d ih =>
    intro v l h1 h2 h3 h4
    have z : ¬ (Int32.ofNat 10 = Int32.ofNat 0) := by decide
    have r1 : Int32.ofNat v - Int32.ofNat (v / 10 * 10) = Int32.ofNat (v % 10) := i_rem2
    have r2 : Int32.ofNat v / Int32.ofNat 10 = Int32.ofNat (v / 10) := i_div h2 (by omega)
    have hm : v % 10 < 10 := Nat.mod_lt v (by omega)
    rw [fX3_saysNumber]
    unfold pDig
    by_cases c : v ≤ 9
    · have c1 : Int32.ofNat v ≤ Int32.ofNat 9 := by rw [i_le (by omega) (by omega)]; exact c
      have e1 := t_says (Γ := Γ) (n := n) (m := m) (I := I) (A := A) (S := S) (h := h) (T := T) (l := l) (c := 48 + v % 10) (by omega) (by omega)
      unfold wS at e1 ⊢
      simp (maxDischargeDepth := 9) only [fX3_saysNumber_b, fX3_saysNumber_p14, xbind, xlet, xpure, tw_sel, tg_0, tg_4, tg_9, tg_12, tg_13, tg_14, tg_15, tg_16, tg_17, tg_18, tg_19, tg_20, tg_21, tg_24, tr_1, tr_2, tr_3, tr_5, tr_6, tr_7, tr_8, tr_10, tr_11, tr_22, tr_23, tp_0, tp_4, tp_9, tp_12, tp_13, tp_14, tp_15, tp_16, tp_17, tp_18, tp_19, tp_20, tp_21, tp_24, va_up_self, va_up_ne, va_uu, i_ofNat, i_add, i_mul, Nat.add_zero, Nat.zero_add, reduceIte, if_true, if_false, Nat.reduceEqDiff, ne_eq, not_false_eq_true, Nat.reduceEqDiff, not_true_eq_false, c1, xdv, z, r1, r2, e1, c, List.nil_append]
    · have c1 : ¬ Int32.ofNat v ≤ Int32.ofNat 9 := by rw [i_le (by omega) (by omega)]; exact c
      have hp : 10 ^ (d + 1) = 10 * 10 ^ d := by rw [Nat.pow_succ, Nat.mul_comm]
      have hd0 : 0 < d := by
        rcases d with _ | d
        · simp at h1; omega
        · omega
      have e0 := ih (v / 10) l (by omega) (by omega) (by omega) hd0
      have hl := pDig_len d (v / 10)
      have e1 := t_says (Γ := Γ) (n := n) (m := m) (I := I) (A := A) (S := S) (h := h) (T := T) (l := l ++ pDig d (v / 10)) (c := 48 + v % 10) (by omega) (by rw [List.length_append]; omega)
      unfold wS at e0 e1 ⊢
      simp (maxDischargeDepth := 9) only [fX3_saysNumber_b, fX3_saysNumber_p14, xbind, xlet, xpure, tw_sel, tg_0, tg_4, tg_9, tg_12, tg_13, tg_14, tg_15, tg_16, tg_17, tg_18, tg_19, tg_20, tg_21, tg_24, tr_1, tr_2, tr_3, tr_5, tr_6, tr_7, tr_8, tr_10, tr_11, tr_22, tr_23, tp_0, tp_4, tp_9, tp_12, tp_13, tp_14, tp_15, tp_16, tp_17, tp_18, tp_19, tp_20, tp_21, tp_24, va_up_self, va_up_ne, va_uu, i_ofNat, i_add, i_mul, Nat.add_zero, Nat.zero_add, reduceIte, if_true, if_false, Nat.reduceEqDiff, ne_eq, not_false_eq_true, Nat.reduceEqDiff, not_true_eq_false, c1, xdv, z, r1, r2, e0, e1, c, List.append_assoc]
theorem pNc_lt : ∀ (ds : List Nat), (∀ d ∈ ds, d ≤ 26) → pNc ds < 27 ^ ds.length := by
  intro ds
  induction ds with
  | nil => intro _; decide
  | cons d ds ih =>
    intro hd
    have h1 := hd d (List.mem_cons_self)
    have h2 := ih (fun x hx => hd x (List.mem_cons_of_mem _ hx))
    unfold pNc
    rw [List.length_cons, Nat.pow_succ]
    omega
/-- the letters stand the last one first in ds -/
theorem t_saysName : ∀ (ds : List Nat) (fu : Nat) (l : List Int32), ds ≠ [] → (∀ d ∈ ds, 1 ≤ d ∧ d ≤ 26) → ds.length ≤ 6 → ds.length ≤ fu → l.length + ds.length ≤ 300 → fX3_saysName fu m (Int32.ofNat (pNc ds)) Γ (wS m I A S h T l) n = some (.inl (), wS m I A S h T (l ++ ds.reverse.map (fun d => Int32.ofNat (96 + d))), 0, 0) := by
  intro ds
  induction ds with
  | nil => intro fu l h0; exact absurd rfl h0
  | cons d ds ih =>
    intro fu l h0 hd h6 hfu hl
    obtain ⟨fu, rfl⟩ : ∃ g, fu = g + 1 := ⟨fu - 1, by simp at hfu; omega⟩
    have hb := hd d (List.mem_cons_self)
    have hlt := pNc_lt (d :: ds) (fun x hx => (hd x hx).2)
    have h27 : 27 ^ (d :: ds).length ≤ 27 ^ 6 := Nat.pow_le_pow_right (by omega) h6
    have h276 : (27 : Nat) ^ 6 = 387420489 := by decide
    simp only [List.length_cons] at h6 hfu hl
    have z : ¬ (Int32.ofNat 27 = Int32.ofNat 0) := by decide
    have hv : pNc (d :: ds) = d + 27 * pNc ds := rfl
    generalize hvv : pNc (d :: ds) = v at *
    have s1 : Int32.ofNat v - Int32.ofNat 1 = Int32.ofNat (v - 1) := i_sub (by omega)
    have r1 : Int32.ofNat (v - 1) - Int32.ofNat ((v - 1) / 27 * 27) = Int32.ofNat ((v - 1) % 27) := i_rem2
    have r2 : Int32.ofNat (v - 1) / Int32.ofNat 27 = Int32.ofNat ((v - 1) / 27) := i_div (by omega) (by omega)
    have q1 : (v - 1) / 27 = pNc ds := by omega
    have q2 : 97 + (v - 1) % 27 = 96 + d := by omega
    rw [fX3_saysName]
    rcases ds with _ | ⟨d2, ds⟩
    · have c : v ≤ 26 := by simp only [pNc] at hv; omega
      have c1 : Int32.ofNat v ≤ Int32.ofNat 26 := by rw [i_le (by omega) (by omega)]; exact c
      have e1 := t_says (Γ := Γ) (n := n) (m := m) (I := I) (A := A) (S := S) (h := h) (T := T) (l := l) (c := 96 + d) (by omega) (by omega)
      unfold wS at e1 ⊢
      simp (maxDischargeDepth := 9) only [fX3_saysName_b, fX3_saysName_p16, xbind, xlet, xpure, tw_sel, tg_0, tg_4, tg_9, tg_12, tg_13, tg_14, tg_15, tg_16, tg_17, tg_18, tg_19, tg_20, tg_21, tg_24, tr_1, tr_2, tr_3, tr_5, tr_6, tr_7, tr_8, tr_10, tr_11, tr_22, tr_23, tp_0, tp_4, tp_9, tp_12, tp_13, tp_14, tp_15, tp_16, tp_17, tp_18, tp_19, tp_20, tp_21, tp_24, va_up_self, va_up_ne, va_uu, i_ofNat, i_add, i_mul, Nat.add_zero, Nat.zero_add, reduceIte, if_true, if_false, Nat.reduceEqDiff, ne_eq, not_false_eq_true, Nat.reduceEqDiff, not_true_eq_false, c1, xdv, z, s1, r1, r2, q2, e1, List.reverse_cons, List.reverse_nil, List.nil_append, List.map_cons, List.map_nil]
    · have hb2 := hd d2 (by simp)
      have c1 : ¬ Int32.ofNat v ≤ Int32.ofNat 26 := by rw [i_le (by omega) (by omega)]; simp only [pNc] at hv; omega
      have e0 := ih fu l (by simp) (fun x hx => hd x (List.mem_cons_of_mem _ hx)) (by omega) (by omega) (by omega)
      have e1 := t_says (Γ := Γ) (n := n) (m := m) (I := I) (A := A) (S := S) (h := h) (T := T) (l := l ++ (d2 :: ds).reverse.map (fun d => Int32.ofNat (96 + d))) (c := 96 + d) (by omega) (by simp only [List.length_append, List.length_map, List.length_reverse]; simp only [List.length_cons] at hl ⊢; omega)
      rw [← q1] at e0
      unfold wS at e0 e1 ⊢
      simp (maxDischargeDepth := 9) only [fX3_saysName_b, fX3_saysName_p16, xbind, xlet, xpure, tw_sel, tg_0, tg_4, tg_9, tg_12, tg_13, tg_14, tg_15, tg_16, tg_17, tg_18, tg_19, tg_20, tg_21, tg_24, tr_1, tr_2, tr_3, tr_5, tr_6, tr_7, tr_8, tr_10, tr_11, tr_22, tr_23, tp_0, tp_4, tp_9, tp_12, tp_13, tp_14, tp_15, tp_16, tp_17, tp_18, tp_19, tp_20, tp_21, tp_24, va_up_self, va_up_ne, va_uu, i_ofNat, i_add, i_mul, Nat.add_zero, Nat.zero_add, reduceIte, if_true, if_false, Nat.reduceEqDiff, ne_eq, not_false_eq_true, Nat.reduceEqDiff, not_true_eq_false, c1, xdv, z, s1, r1, r2, e0]
      rw [q2, e1]
      simp only [List.reverse_cons, List.map_append, List.map_cons, List.map_nil, List.append_assoc]
theorem t_formattedByte1 {w k : Nat} (hw : I 24 = Int32.ofNat w) (hw' : w ≤ 300) (hk : k < w) : fX3_formattedByte m (Int32.ofNat k) Γ (tw m I A S h) n = some (.inl (A 11 k), tw m (va_up I 0 (Int32.ofNat 0)) A S h, 0, 0) := by
  have e1 := t_in1 (Γ := Γ) (h := tw m (va_up I 0 (Int32.ofNat 0)) A S h) (n := n) (a := (Int32.ofNat k).toInt64) (b := 0) (c := (Int32.ofNat w - Int32.ofNat 1).toInt64) (by rw [Int32.toInt_toInt64, i_toInt (by omega)]; exact Int.natCast_nonneg k) (by rw [i_m1i (by omega), Int32.toInt_toInt64, i_toInt (by omega)]; omega)
  simp (maxDischargeDepth := 9) only [fX3_formattedByte, xbind, xlet, xpure, tw_sel, tg_0, tg_4, tg_9, tg_12, tg_13, tg_14, tg_15, tg_16, tg_17, tg_18, tg_19, tg_20, tg_21, tg_24, tr_1, tr_2, tr_3, tr_5, tr_6, tr_7, tr_8, tr_10, tr_11, tr_22, tr_23, tp_0, tp_4, tp_9, tp_12, tp_13, tp_14, tp_15, tp_16, tp_17, tp_18, tp_19, tp_20, tp_21, tp_24, va_up_self, va_up_ne, va_uu, i_ofNat, i_add, i_mul, Nat.add_zero, Nat.zero_add, reduceIte, if_true, if_false, Nat.reduceEqDiff, ne_eq, not_false_eq_true, Nat.reduceEqDiff, not_true_eq_false, hw, e1, i_10, tl_11 (show k < 300 by omega)]
theorem t_formattedByte0 {w : Nat} {p : Int32} (hw : I 24 = Int32.ofNat w) (hw' : w ≤ 300) (hk : ¬ (0 ≤ p.toInt ∧ p.toInt < w)) : fX3_formattedByte m p Γ (tw m I A S h) n = some (.inl (-Int32.ofNat 1), tw m (va_up I 0 (Int32.ofNat 0)) A S h, 0, 0) := by
  have e1 := t_in0 (Γ := Γ) (h := tw m (va_up I 0 (Int32.ofNat 0)) A S h) (n := n) (a := p.toInt64) (b := 0) (c := (Int32.ofNat w - Int32.ofNat 1).toInt64) (by
    rw [i_m1i (by omega), Int32.toInt_toInt64]
    rintro ⟨q1, q2⟩
    have q1 : 0 ≤ p.toInt := q1
    exact hk ⟨q1, by omega⟩)
  simp (maxDischargeDepth := 9) only [fX3_formattedByte, xbind, xlet, xpure, tw_sel, tg_0, tg_4, tg_9, tg_12, tg_13, tg_14, tg_15, tg_16, tg_17, tg_18, tg_19, tg_20, tg_21, tg_24, tr_1, tr_2, tr_3, tr_5, tr_6, tr_7, tr_8, tr_10, tr_11, tr_22, tr_23, tp_0, tp_4, tp_9, tp_12, tp_13, tp_14, tp_15, tp_16, tp_17, tp_18, tp_19, tp_20, tp_21, tp_24, va_up_self, va_up_ne, va_uu, i_ofNat, i_add, i_mul, Nat.add_zero, Nat.zero_add, reduceIte, if_true, if_false, Nat.reduceEqDiff, ne_eq, not_false_eq_true, Nat.reduceEqDiff, not_true_eq_false, hw, e1]
end TW21
