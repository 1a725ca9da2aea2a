/-! part 432: the twin: formatted text of a species, of a ledger; closingUpTo -/
section TW23
variable {Γ : Nat → Option Nat} {m n : Nat} {I : Nat → Int32} {A : Nat → Nat → Int32} {S : Nat → Int64} {h : xH} {T : Nat → Int32} {s o : Nat}
theorem wS_nil : wS m I A S h (A 11) [] = tw m (va_up I 24 (Int32.ofNat 0)) A S h := by
  unfold wS
  rw [pWr_nil, va_id]
  rfl
theorem t_formatSpecies_no (ok : okN (A 1)) {p : Int32} (hp : ¬ vS (A 1) p) : fX3_formatSpecies m p Γ (tw m I A S h) n = some (.inl (Int32.ofNat 0), tw m (va_up I 0 (Int32.ofNat 1)) A S h, 0, 0) := by
  have e0 := t_noSpecies0 (Γ := Γ) (n := n) (m := m) (I := va_up I 0 (Int32.ofNat 0)) (S := S) (h := h) ok hp
  simp (maxDischargeDepth := 9) only [fX3_formatSpecies, xbind, xlet, xpure, tw_sel, tg_0, tg_4, tg_9, tg_12, tg_13, tg_14, tg_15, tg_16, tg_17, tg_18, tg_19, tg_20, tg_21, tg_24, tr_1, tr_2, tr_3, tr_5, tr_6, tr_7, tr_8, tr_10, tr_11, tr_22, tr_23, tp_0, tp_4, tp_9, tp_12, tp_13, tp_14, tp_15, tp_16, tp_17, tp_18, tp_19, tp_20, tp_21, tp_24, va_up_self, va_up_ne, va_uu, i_ofNat, i_add, i_mul, Nat.add_zero, Nat.zero_add, reduceIte, if_true, if_false, Nat.reduceEqDiff, ne_eq, not_false_eq_true, Nat.reduceEqDiff, not_true_eq_false, e0, i_10]
def pTxS (ds : List Nat) (c : Nat → Nat) (o t k : Nat) : List Int32 := ds.reverse.map (fun d => Int32.ofNat (96 + d)) ++ [Int32.ofNat 58] ++ pCo c 0 (o + 1) ++ pTail t k
theorem t_formatSpecies1 (ok : okN (A 1)) (hs : s < nn (A 1 0)) (ho : nn (A 1 (zI s 1)) = o) {ds : List Nat} (h0 : ds ≠ []) (hd : ∀ d ∈ ds, 1 ≤ d ∧ d ≤ 26) (h6 : ds.length ≤ 6) (hn : A 1 (zI s 0) = Int32.ofNat (pNc ds)) {c : Nat → Nat} {t k : Nat} (hc : ∀ x, x ≤ o → A 1 (zI s (39 + x)) = Int32.ofNat (c x) ∧ c x < 2147483648) (ht : pTot (A 1) s o = Int32.ofNat t) (ht' : t < 2147483648) (hk : A 1 (zI s 4) = Int32.ofNat k) (hk' : k < 2147483648) :
    fX3_formatSpecies m (Int32.ofNat s) Γ (tw m I A S h) n = some (.inl (Int32.ofNat (pTxS ds c o t k).length), wS m (va_up I 0 (Int32.ofNat 0)) A S h (A 11) (pTxS ds c o t k), 0, 0) := by
  have h4 := ok.2.1
  have hs4 : s < 4 := by omega
  obtain ⟨a1, a2, -⟩ := ok.2.2.2.2.2.2.2.2.1 s hs
  unfold nN at a1
  rw [ho] at a1 a2
  have e0 := t_noSpecies1 (Γ := Γ) (n := n) (m := m) (I := va_up I 0 (Int32.ofNat 0)) (S := S) (h := h) ok (vS_of hs h4)
  have e1 := t_of (Γ := Γ) (n := n) (m := m) (I := va_up (va_up I 0 (Int32.ofNat 0)) 24 (Int32.ofNat 0)) (A := A) (S := S) (h := h) hs4 (show 0 < 132 by omega)
  rw [hn] at e1
  have e2 := t_saysName (Γ := Γ) (n := n) (m := m) (I := va_up I 0 (Int32.ofNat 0)) (A := A) (S := S) (h := h) (T := A 11) ds 16 [] h0 hd h6 (by omega) (by simp; omega)
  rw [wS_nil, List.nil_append] at e2
  have e3 := t_says (Γ := Γ) (n := n) (m := m) (I := va_up I 0 (Int32.ofNat 0)) (A := A) (S := S) (h := h) (T := A 11) (l := ds.reverse.map (fun d => Int32.ofNat (96 + d))) (c := 58) (by omega) (by simp; omega)
  have e4 := t_formatSpecies_p38 (Γ := Γ) (n := n) (m := m) (I := va_up I 0 (Int32.ofNat 0)) (A := A) (S := S) (h := h) (T := A 11) hs4 a1 a2 hc ht ht' hk hk' (o + 1) 0 xFU (ds.reverse.map (fun d => Int32.ofNat (96 + d)) ++ [Int32.ofNat 58]) (by omega) (by simp; omega) (by unfold xFU; omega)
  have sel : ∀ {α : Type} (f : Nat → xM α) l, xsel (some m) [(39, f)] Γ (wS m (va_up I 0 (Int32.ofNat 0)) A S h (A 11) l) n = f m Γ (wS m (va_up I 0 (Int32.ofNat 0)) A S h (A 11) l) n := fun f l => tw_sel
  unfold pTxS
  simp (maxDischargeDepth := 9) only [fX3_formatSpecies, xbind, xlet, xpure, tw_sel, tg_0, tg_4, tg_9, tg_12, tg_13, tg_14, tg_15, tg_16, tg_17, tg_18, tg_19, tg_20, tg_21, tg_24, tr_1, tr_2, tr_3, tr_5, tr_6, tr_7, tr_8, tr_10, tr_11, tr_22, tr_23, tp_0, tp_4, tp_9, tp_12, tp_13, tp_14, tp_15, tp_16, tp_17, tp_18, tp_19, tp_20, tp_21, tp_24, va_up_self, va_up_ne, va_uu, i_ofNat, i_add, i_mul, Nat.add_zero, Nat.zero_add, reduceIte, if_true, if_false, Nat.reduceEqDiff, ne_eq, not_false_eq_true, Nat.reduceEqDiff, not_true_eq_false, e0, e1, e2]
  simp only [xbind, xlet, xpure, sel, e3, e4, Nat.add_zero, Nat.zero_add]
def pTxL (y : Nat) (p : Nat → Nat) : List Int32 := pDig 16 y ++ [Int32.ofNat 58] ++ ([Int32.ofNat 32] ++ pDig 16 (p 0)) ++ ([Int32.ofNat 43] ++ pDig 16 (p 1)) ++ ([Int32.ofNat 43] ++ pDig 16 (p 4)) ++ ([Int32.ofNat 45] ++ pDig 16 (p 2)) ++ ([Int32.ofNat 45] ++ pDig 16 (p 3)) ++ ([Int32.ofNat 61] ++ pDig 16 (p 5))
theorem t_saysPart (ok : okN (A 1)) {k w b v : Nat} {l : List Int32} (hs : s < nn (A 1 0)) (hk : k ≤ nn (A 1 2)) (hw : w < 7) (hb : b < 128) (hv : pLP (A 4) (A 1) s k w = Int32.ofNat v) (hv' : v < 2147483648) (hl : l.length ≤ 283) : fX3_saysPart m (Int32.ofNat b) (Int32.ofNat s) (Int32.ofNat k) (Int32.ofNat w) Γ (wS m I A S h T l) n = some (.inl (), wS m I A S h T (l ++ ([Int32.ofNat b] ++ pDig 16 v)), 0, 0) := by
  have e1 := t_says (Γ := Γ) (n := n) (m := m) (I := I) (A := A) (S := S) (h := h) (T := T) (l := l) hb (by omega)
  have e2 : fX3_ledgerPart m (Int32.ofNat s) (Int32.ofNat k) (Int32.ofNat w) Γ (wS m I A S h T (l ++ [Int32.ofNat b])) n = some (.inl (Int32.ofNat v), wS m I A S h T (l ++ [Int32.ofNat b]), 0, 0) := by
    have e := t_ledgerPart (Γ := Γ) (n := n) (m := m) (I := va_up I 24 (Int32.ofNat (l ++ [Int32.ofNat b]).length)) (A := va_up A 11 (pWr T (l ++ [Int32.ofNat b]))) (S := S) (h := h) (s := s) (k := k) (w := w) (by rw [va_up_ne _ _ (by omega)]; exact ok) (by rw [va_up_ne _ _ (by omega)]; exact hs) (by rw [va_up_ne _ _ (by omega)]; exact hk) hw
    rw [va_up_ne _ _ (show 4 ≠ 11 by omega), va_up_ne _ _ (show 1 ≠ 11 by omega), hv] at e
    exact e
  have e3 := t_num (Γ := Γ) (n := n) (m := m) (I := I) (A := A) (S := S) (h := h) (T := T) (l := l ++ [Int32.ofNat b]) hv' (by simp; omega)
  have sel : ∀ {α : Type} (f : Nat → xM α) l, xsel (some m) [(39, f)] Γ (wS m I A S h T l) n = f m Γ (wS m I A S h T l) n := fun f l => tw_sel
  simp only [fX3_saysPart, xbind, xpure, sel, e1, e2, e3, Nat.add_zero, Nat.zero_add, List.append_assoc]
theorem t_formatLedger_no (ok : okN (A 1)) {p q : Int32} (hp : ¬ vS (A 1) p) : fX3_formatLedger m p q Γ (tw m I A S h) n = some (.inl (Int32.ofNat 0), tw m (va_up I 0 (Int32.ofNat 1)) A S h, 0, 0) := by
  have e0 := t_noSpecies0 (Γ := Γ) (n := n) (m := m) (I := va_up I 0 (Int32.ofNat 0)) (S := S) (h := h) ok hp
  simp (maxDischargeDepth := 9) only [fX3_formatLedger_p27, fX3_formatLedger, xbind, xlet, xpure, tw_sel, tg_0, tg_4, tg_9, tg_12, tg_13, tg_14, tg_15, tg_16, tg_17, tg_18, tg_19, tg_20, tg_21, tg_24, tr_1, tr_2, tr_3, tr_5, tr_6, tr_7, tr_8, tr_10, tr_11, tr_22, tr_23, tp_0, tp_4, tp_9, tp_12, tp_13, tp_14, tp_15, tp_16, tp_17, tp_18, tp_19, tp_20, tp_21, tp_24, va_up_self, va_up_ne, va_uu, i_ofNat, i_add, i_mul, Nat.add_zero, Nat.zero_add, reduceIte, if_true, if_false, Nat.reduceEqDiff, ne_eq, not_false_eq_true, Nat.reduceEqDiff, not_true_eq_false, e0, i_10]
theorem t_formatLedger2 (ok : okN (A 1)) {p q : Int32} (hp : vS (A 1) p) (hq : ¬ ((pFY (A 1) : Int) ≤ q.toInt ∧ q.toInt ≤ nn (A 1 1))) : fX3_formatLedger m p q Γ (tw m I A S h) n = some (.inl (Int32.ofNat 0), tw m (va_up I 0 (Int32.ofNat 2)) A S h, 0, 0) := by
  have e0 := t_noSpecies1 (Γ := Γ) (n := n) (m := m) (I := va_up I 0 (Int32.ofNat 0)) (S := S) (h := h) ok hp
  have e1 := t_isYear0 (Γ := Γ) (n := n) (m := m) (I := va_up I 0 (Int32.ofNat 0)) (S := S) (h := h) ok hq
  simp (maxDischargeDepth := 9) only [fX3_formatLedger_p27, fX3_formatLedger, xbind, xlet, xpure, tw_sel, tg_0, tg_4, tg_9, tg_12, tg_13, tg_14, tg_15, tg_16, tg_17, tg_18, tg_19, tg_20, tg_21, tg_24, tr_1, tr_2, tr_3, tr_5, tr_6, tr_7, tr_8, tr_10, tr_11, tr_22, tr_23, tp_0, tp_4, tp_9, tp_12, tp_13, tp_14, tp_15, tp_16, tp_17, tp_18, tp_19, tp_20, tp_21, tp_24, va_up_self, va_up_ne, va_uu, i_ofNat, i_add, i_mul, Nat.add_zero, Nat.zero_add, reduceIte, if_true, if_false, Nat.reduceEqDiff, ne_eq, not_false_eq_true, Nat.reduceEqDiff, not_true_eq_false, e0, e1, i_10, t_throws1]
theorem t_formatLedger1 (ok : okN (A 1)) {y : Nat} (hs : s < nn (A 1 0)) (h1 : pFY (A 1) ≤ y) (h2 : y ≤ nn (A 1 1)) {p : Nat → Nat} (hp : ∀ w, w < 6 → pLP (A 4) (A 1) s (y - pFY (A 1)) w = Int32.ofNat (p w) ∧ p w < 2147483648) :
    fX3_formatLedger m (Int32.ofNat s) (Int32.ofNat y) Γ (tw m I A S h) n = some (.inl (Int32.ofNat (pTxL y p).length), wS m (va_up I 0 (Int32.ofNat 0)) A S h (A 11) (pTxL y p), 0, 0) := by
  have h4 := ok.2.1
  have hy9 := ok.2.2.2.1
  have hcy := ok.2.2.2.2.2.1
  have hk : y - pFY (A 1) ≤ nn (A 1 2) := by unfold pFY at *; omega
  have e0 := t_noSpecies1 (Γ := Γ) (n := n) (m := m) (I := va_up I 0 (Int32.ofNat 0)) (S := S) (h := h) ok (vS_of hs h4)
  have e1 := t_isYear1 (Γ := Γ) (n := n) (m := m) (I := va_up I 0 (Int32.ofNat 0)) (S := S) (h := h) ok (p := Int32.ofNat y) (by rw [i_toInt (by omega)]; omega) (by rw [i_toInt (by omega)]; omega)
  have e2 := t_firstYear (Γ := Γ) (n := n) (m := m) (I := va_up I 0 (Int32.ofNat 0)) (A := A) (S := S) (h := h) ok
  have e3 : Int32.ofNat y - Int32.ofNat (pFY (A 1)) = Int32.ofNat (y - pFY (A 1)) := i_sub h1
  have nu := t_num (Γ := Γ) (n := n) (m := m) (I := va_up I 0 (Int32.ofNat 0)) (A := A) (S := S) (h := h) (T := A 11) (v := y) (l := []) (by omega) (by simp)
  rw [wS_nil, List.nil_append] at nu
  have d0 := pDig_len 16 y
  have dd : ∀ w, (pDig 16 (p w)).length ≤ 16 := fun w => pDig_len 16 (p w)
  have sy := t_says (Γ := Γ) (n := n) (m := m) (I := va_up I 0 (Int32.ofNat 0)) (A := A) (S := S) (h := h) (T := A 11) (l := pDig 16 y) (c := 58) (by omega) (by omega)
  have sp : ∀ (b w : Nat) (l : List Int32), b < 128 → w < 6 → l.length ≤ 283 → fX3_saysPart m (Int32.ofNat b) (Int32.ofNat s) (Int32.ofNat (y - pFY (A 1))) (Int32.ofNat w) Γ (wS m (va_up I 0 (Int32.ofNat 0)) A S h (A 11) l) n = some (.inl (), wS m (va_up I 0 (Int32.ofNat 0)) A S h (A 11) (l ++ ([Int32.ofNat b] ++ pDig 16 (p w))), 0, 0) := fun b w l q1 q2 q3 => t_saysPart ok hs hk (by omega) q1 (hp w q2).1 (hp w q2).2 q3
  have sel : ∀ {α : Type} (f : Nat → xM α) l, xsel (some m) [(39, f)] Γ (wS m (va_up I 0 (Int32.ofNat 0)) A S h (A 11) l) n = f m Γ (wS m (va_up I 0 (Int32.ofNat 0)) A S h (A 11) l) n := fun f l => tw_sel
  have wr : ∀ l, xgI 39 24 (some m) Γ (wS m (va_up I 0 (Int32.ofNat 0)) A S h (A 11) l) n = some (.inl (Int32.ofNat l.length), wS m (va_up I 0 (Int32.ofNat 0)) A S h (A 11) l, 0, 0) := by
    intro l
    have := tg_24 (Γ := Γ) (m := m) (n := n) (I := va_up (va_up I 0 (Int32.ofNat 0)) 24 (Int32.ofNat l.length)) (A := va_up A 11 (pWr (A 11) l)) (S := S) (h := h)
    rw [va_up_self] at this
    exact this
  have q0 := dd 0
  have q1 := dd 1
  have q2 := dd 2
  have q3 := dd 3
  have q4 := dd 4
  have p0 := sp 32 0 (pDig 16 y ++ [Int32.ofNat 58]) (by omega) (by omega) (by simp; omega)
  have p1 := sp 43 1 (pDig 16 y ++ [Int32.ofNat 58] ++ ([Int32.ofNat 32] ++ pDig 16 (p 0))) (by omega) (by omega) (by simp; omega)
  have p4 := sp 43 4 (pDig 16 y ++ [Int32.ofNat 58] ++ ([Int32.ofNat 32] ++ pDig 16 (p 0)) ++ ([Int32.ofNat 43] ++ pDig 16 (p 1))) (by omega) (by omega) (by simp; omega)
  have p2 := sp 45 2 (pDig 16 y ++ [Int32.ofNat 58] ++ ([Int32.ofNat 32] ++ pDig 16 (p 0)) ++ ([Int32.ofNat 43] ++ pDig 16 (p 1)) ++ ([Int32.ofNat 43] ++ pDig 16 (p 4))) (by omega) (by omega) (by simp; omega)
  have p3 := sp 45 3 (pDig 16 y ++ [Int32.ofNat 58] ++ ([Int32.ofNat 32] ++ pDig 16 (p 0)) ++ ([Int32.ofNat 43] ++ pDig 16 (p 1)) ++ ([Int32.ofNat 43] ++ pDig 16 (p 4)) ++ ([Int32.ofNat 45] ++ pDig 16 (p 2))) (by omega) (by omega) (by simp; omega)
  have p5 := sp 61 5 (pDig 16 y ++ [Int32.ofNat 58] ++ ([Int32.ofNat 32] ++ pDig 16 (p 0)) ++ ([Int32.ofNat 43] ++ pDig 16 (p 1)) ++ ([Int32.ofNat 43] ++ pDig 16 (p 4)) ++ ([Int32.ofNat 45] ++ pDig 16 (p 2)) ++ ([Int32.ofNat 45] ++ pDig 16 (p 3))) (by omega) (by omega) (by simp; omega)
  unfold pTxL
  simp (maxDischargeDepth := 9) only [fX3_formatLedger_p27, fX3_formatLedger, xbind, xlet, xpure, tw_sel, tg_0, tg_4, tg_9, tg_12, tg_13, tg_14, tg_15, tg_16, tg_17, tg_18, tg_19, tg_20, tg_21, tg_24, tr_1, tr_2, tr_3, tr_5, tr_6, tr_7, tr_8, tr_10, tr_11, tr_22, tr_23, tp_0, tp_4, tp_9, tp_12, tp_13, tp_14, tp_15, tp_16, tp_17, tp_18, tp_19, tp_20, tp_21, tp_24, va_up_self, va_up_ne, va_uu, i_ofNat, i_add, i_mul, Nat.add_zero, Nat.zero_add, reduceIte, if_true, if_false, Nat.reduceEqDiff, ne_eq, not_false_eq_true, Nat.reduceEqDiff, not_true_eq_false, e0, e1, e2, e3, i_10, t_throws0, nu]
  simp only [xbind, xlet, xpure, sel, sy, p0, p1, p4, p2, p3, p5, wr, Nat.add_zero, Nat.zero_add]
end TW23
