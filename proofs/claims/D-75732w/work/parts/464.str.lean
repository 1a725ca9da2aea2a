/-! part 464: strings; the twin's 'takes' -/
/-- a string of bytes w (Latin1) -/
def yS (h : xH) (a : Nat) (w : List Int32) : Prop := w.length < 2147483648 ∧ yO h 5 a ∧ yi h 5 1 a = Int32.ofNat 0 ∧ ∃ v, yr h 5 0 a = some v ∧ yA h 0 v ∧ yln h v = w.length ∧ ∀ i (hi : i < w.length), yli h 0 v i = w[i]
theorem x_retB0 : xretN .byte (Int32.ofNat 0) = xpure (Int32.ofNat 0) := by unfold xretN; rw [if_pos (by decide)]
theorem i_shr0 (x : Int32) : x >>> (Int32.ofNat 0 &&& Int32.ofNat 31) = x := by
  have e : (Int32.ofNat 0 &&& Int32.ofNat 31) = 0 := by decide
  rw [e]
  simp
theorem c_asc : ∀ c, c < 128 → (((Int32.ofNat c &&& Int32.ofNat 255).toUInt32 % 65536).toInt32 = Int32.ofNat c ∧ narrow .char (.int (Int32.ofNat c)) = .int (Int32.ofNat c)) := by
  have : ∀ c : Fin 128, (((Int32.ofNat c.1 &&& Int32.ofNat 255).toUInt32 % 65536).toInt32 = Int32.ofNat c.1 ∧ narrow .char (.int (Int32.ofNat c.1)) = .int (Int32.ofNat c.1)) := by decide +kernel
  exact fun c hc => this ⟨c, hc⟩
theorem x_retC {c : Nat} (hc : c < 128) : xretN .char (Int32.ofNat c) = xpure (Int32.ofNat c) := by unfold xretN; rw [if_pos (c_asc c hc).2]
section STR
variable {Γ : Nat → Option Nat} {n : Nat} {h : xH} {a : Nat} {w : List Int32}
theorem e_coder (H : yS h a w) : fJ9_coder a Γ h n = some (.inl (Int32.ofNat 0), h, 0, 0) := by
  obtain ⟨-, h1, h2, v, h3, h4, h5, h6⟩ := H
  have d1 : ¬ Int32.ofNat 1 = Int32.ofNat 0 := by decide
  simp (maxDischargeDepth := 9) only [fJ9_coder, xbind, xpure, i_ofNat, d1, e_gI h1, kn5_1, h2, x_retB0, reduceIte, Nat.add_zero]
theorem e_slen (H : yS h a w) : fJ9_length a Γ h n = some (.inl (Int32.ofNat w.length), h, 0, 0) := by
  have e0 := e_coder (Γ := Γ) (n := n) H
  obtain ⟨-, h1, h2, v, h3, h4, h5, h6⟩ := H
  have e1 : xlen (some v) Γ h n = some (.inl (Int32.ofNat w.length), h, 0, 0) := by rw [e_len h4, h5]
  simp (maxDischargeDepth := 9) only [fJ9_length, xbind, xpure, e_gR h1, kn5_0, h3, e1, e_sel h1, e0, i_ofNat, i_shr0, Nat.add_zero]
theorem e_isL1 (H : yS h a w) : fJ9_isLatin1 a Γ h n = some (.inl (Int32.ofNat 1), h, 0, 0) := by
  obtain ⟨-, h1, h2, v, h3, h4, h5, h6⟩ := H
  have d1 : ¬ Int32.ofNat 1 = Int32.ofNat 0 := by decide
  simp (maxDischargeDepth := 9) only [fJ9_isLatin1, xbind, xpure, i_ofNat, d1, e_gI h1, kn5_1, h2, reduceIte, Nat.add_zero]
theorem e_schar {i c : Nat} (H : yS h a w) (hi : i < w.length) (hw : w[i] = Int32.ofNat c) (hc : c < 128) : fJ9_charAt a (Int32.ofNat i) Γ h n = some (.inl (Int32.ofNat c), h, 0, 0) := by
  have e0 := e_isL1 (Γ := Γ) (n := n) H
  obtain ⟨hl, h1, h2, v, h3, h4, h5, h6⟩ := H
  have d1 : ¬ Int32.ofNat 1 = Int32.ofNat 0 := by decide
  have e1 : xlen (some v) Γ h n = some (.inl (Int32.ofNat w.length), h, 0, 0) := by rw [e_len h4, h5]
  have e2 : xldI 0 (some v) (Int32.ofNat i) Γ h n = some (.inl (Int32.ofNat c), h, 0, 0) := by
    rw [e_ldI h4 ytk_0 (yin_of (by omega) (by omega)), i_nat (by omega), h6 i hi, hw]
  have c1 : ¬ Int32.ofNat i < Int32.ofNat 0 := by rw [i_lt (by omega) (by decide)]; omega
  have c2 : Int32.ofNat i < Int32.ofNat w.length := by rw [i_lt (by omega) (by omega)]; omega
  have c3 := (c_asc c hc).1
  simp (maxDischargeDepth := 9) only [fJ9_charAt, fJ15_charAt, fJ9_checkIndex, fJ14_checkIndex, xcon, xbind, xpure, e_gR h1, kn5_0, h3, e1, e2, e_sel h1, e0, i_ofNat, d1, c1, c2, c3, x_retC hc, reduceIte, Nat.add_zero]
end STR
/-- a string constant that the twin's words don't change -/
def sT (m : Nat) (h : xH) (a : Nat) (w : List Nat) : Prop := (∀ c ∈ w, c < 128) ∧ ∀ (I : Nat → Int32) (A : Nat → Nat → Int32) (Z : Nat → Int64), yS (tw m I A Z h) a (w.map Int32.ofNat)
section TP5
variable {Γ : Nat → Option Nat} {m n : Nat} {I : Nat → Int32} {A : Nat → Nat → Int32} {S : Nat → Int64} {h : xH} {T : Nat → Int32} {len p a : Nat} {w : List Nat}
theorem t_takes_p26 {q : Nat} (hs : sT m h a w) (hq : I 13 = Int32.ofNat q) (hT : A 8 = T) (hl : q + w.length ≤ len) (h9 : len ≤ 900) : ∀ (k x fu : Nat), x + k = w.length → k + 1 < fu →
    fX3_takes_p26 fu m (some a) (Int32.ofNat 1) (Int32.ofNat x) Γ (tw m I A S h) n = some (.inl (b2i (pIsL T (q + x) (w.drop x))), tw m (if pIsL T (q + x) (w.drop x) = true then va_up I 13 (Int32.ofNat (q + w.length)) else I) A S h, 0, 0) := by
  subst hT
  have d1 : ¬ Int32.ofNat 1 = Int32.ofNat 0 := by decide
  have hS := hs.2 I A S
  have s1 : (w.map Int32.ofNat).length = w.length := List.length_map ..
  have e1 := e_slen (Γ := Γ) (n := n) hS
  rw [s1] at e1
  have e2 : ∀ {α : Type} (f : Nat → xM α), xsel (some a) [(5, f)] Γ (tw m I A S h) n = f a Γ (tw m I A S h) n := fun f => e_sel hS.2.1
  intro k
  induction k with
  | zero =>
    intro x fu hx hf
    obtain ⟨fu, rfl⟩ : ∃ g, fu = g + 1 := ⟨fu - 1, by omega⟩
    have c1 : Int32.ofNat w.length ≤ Int32.ofNat x := by rw [i_le (by omega) (by omega)]; omega
    have hd : w.drop x = [] := List.drop_eq_nil_of_le (by omega)
    rw [fX3_takes_p26, hd]
    simp (maxDischargeDepth := 9) only [xbind, xlet, xpure, tw_sel, tg_0, tg_4, tg_9, tg_12, tg_13, tg_14, tg_15, tg_16, tg_17, tg_18, tg_19, tg_20, tg_21, tg_24, tr_1, tr_2, tr_3, tr_5, tr_6, tr_7, tr_8, tr_10, tr_11, tr_22, tr_23, tp_0, tp_4, tp_9, tp_12, tp_13, tp_14, tp_15, tp_16, tp_17, tp_18, tp_19, tp_20, tp_21, tp_24, va_up_self, va_up_ne, va_uu, i_ofNat, i_add, i_mul, Nat.add_zero, Nat.zero_add, reduceIte, if_true, if_false, Nat.reduceEqDiff, ne_eq, not_false_eq_true, Nat.reduceEqDiff, not_true_eq_false, d1, e2, e1, c1, fX3_takes_p69, hq, x_ret1, pIsL, b2i_t]
  | succ k ih =>
    intro x fu hx hf
    obtain ⟨fu, rfl⟩ : ∃ g, fu = g + 1 := ⟨fu - 1, by omega⟩
    have hxl : x < w.length := by omega
    have c1 : ¬ Int32.ofNat w.length ≤ Int32.ofNat x := by rw [i_le (by omega) (by omega)]; omega
    have hd : w.drop x = w[x] :: w.drop (x + 1) := List.drop_eq_getElem_cons hxl
    have hc := hs.1 w[x] (List.getElem_mem hxl)
    have e3 := e_schar (Γ := Γ) (n := n) (i := x) (c := w[x]) hS (by rw [s1]; exact hxl) (List.getElem_map ..) hc
    have e4 := ih (x + 1) fu (by omega) (by omega)
    rw [fX3_takes_p26, hd]
    by_cases c2 : A 8 (q + x) = Int32.ofNat w[x]
    · have c3 : pIsL (A 8) (q + x) (w[x] :: w.drop (x + 1)) = pIsL (A 8) (q + (x + 1)) (w.drop (x + 1)) := by
        rw [pIsL, decide_eq_true c2, Bool.true_and]
        rfl
      rw [c3]
      simp (maxDischargeDepth := 9) only [xbind, xlet, xpure, tw_sel, tg_0, tg_4, tg_9, tg_12, tg_13, tg_14, tg_15, tg_16, tg_17, tg_18, tg_19, tg_20, tg_21, tg_24, tr_1, tr_2, tr_3, tr_5, tr_6, tr_7, tr_8, tr_10, tr_11, tr_22, tr_23, tp_0, tp_4, tp_9, tp_12, tp_13, tp_14, tp_15, tp_16, tp_17, tp_18, tp_19, tp_20, tp_21, tp_24, va_up_self, va_up_ne, va_uu, i_ofNat, i_add, i_mul, Nat.add_zero, Nat.zero_add, reduceIte, if_true, if_false, Nat.reduceEqDiff, ne_eq, not_false_eq_true, Nat.reduceEqDiff, not_true_eq_false, d1, e2, e1, c1, hq, tl_8 (show q + x < 900 by omega), e3, eq_true c2, fX3_takes_p62, e4]
    · have c3 : pIsL (A 8) (q + x) (w[x] :: w.drop (x + 1)) = false := by
        rw [pIsL, decide_eq_false c2, Bool.false_and]
      obtain ⟨fu, rfl⟩ : ∃ g, fu = g + 1 := ⟨fu - 1, by omega⟩
      rw [c3]
      simp (maxDischargeDepth := 9) only [xbind, xlet, xpure, tw_sel, tg_0, tg_4, tg_9, tg_12, tg_13, tg_14, tg_15, tg_16, tg_17, tg_18, tg_19, tg_20, tg_21, tg_24, tr_1, tr_2, tr_3, tr_5, tr_6, tr_7, tr_8, tr_10, tr_11, tr_22, tr_23, tp_0, tp_4, tp_9, tp_12, tp_13, tp_14, tp_15, tp_16, tp_17, tp_18, tp_19, tp_20, tp_21, tp_24, va_up_self, va_up_ne, va_uu, i_ofNat, i_add, i_mul, Nat.add_zero, Nat.zero_add, reduceIte, if_true, if_false, Nat.reduceEqDiff, ne_eq, not_false_eq_true, Nat.reduceEqDiff, not_true_eq_false, d1, e2, e1, c1, hq, tl_8 (show q + x < 900 by omega), e3, c2, fX3_takes_p62]
      rw [fX3_takes_p26]
      simp (maxDischargeDepth := 9) only [xbind, xlet, xpure, tw_sel, tg_0, tg_4, tg_9, tg_12, tg_13, tg_14, tg_15, tg_16, tg_17, tg_18, tg_19, tg_20, tg_21, tg_24, tr_1, tr_2, tr_3, tr_5, tr_6, tr_7, tr_8, tr_10, tr_11, tr_22, tr_23, tp_0, tp_4, tp_9, tp_12, tp_13, tp_14, tp_15, tp_16, tp_17, tp_18, tp_19, tp_20, tp_21, tp_24, va_up_self, va_up_ne, va_uu, i_ofNat, i_add, i_mul, Nat.add_zero, Nat.zero_add, reduceIte, if_true, if_false, Nat.reduceEqDiff, ne_eq, not_false_eq_true, Nat.reduceEqDiff, not_true_eq_false, fX3_takes_p69, x_ret0, b2i_f, Bool.false_eq_true]
theorem t_takes (H : tPs T len I A p) (hs : sT m h a w) (hw : w.length < 100) : ∃ J, fX3_takes m (some a) Γ (tw m I A S h) n = some (.inl (b2i (gWd T len w (gBl T len p))), tw m J A S h, 0, 0) ∧ tOk I J (if gWd T len w (gBl T len p) = true then gBl T len p + w.length else gBl T len p) ∧ J 14 = Int32.ofNat (gBl T len p) := by
  have H0 := H
  obtain ⟨J, e1, o1, b1⟩ := t_wordHere (Γ := Γ) (n := n) (m := m) (S := S) (h := h) H
  obtain ⟨h1, h2, h3, rfl, h5, h6⟩ := H
  have e0 := t_hasFailed0 (Γ := Γ) (n := n) (m := m) (A := A) (S := S) (h := h) h3
  have q1 := gBl_le (T := A 8) h5
  have q2 := gWE_le (T := A 8) q1
  have d1 : ¬ Int32.ofNat 1 = Int32.ofNat 0 := by decide
  have hS := hs.2 J A S
  have s1 : (w.map Int32.ofNat).length = w.length := List.length_map ..
  have e2 := e_slen (Γ := Γ) (n := n) hS
  rw [s1] at e2
  have e3 : ∀ {α : Type} (f : Nat → xM α), xsel (some a) [(5, f)] Γ (tw m J A S h) n = f a Γ (tw m J A S h) n := fun f => e_sel hS.2.1
  have i1 : (Int32.ofNat (gWE (A 8) len (gBl (A 8) len p) - gBl (A 8) len p) = Int32.ofNat w.length) ↔ gWE (A 8) len (gBl (A 8) len p) - gBl (A 8) len p = w.length := i_eq (by omega) (by omega)
  unfold gWd
  by_cases c1 : gWE (A 8) len (gBl (A 8) len p) - gBl (A 8) len p = w.length
  · have e4 := t_takes_p26 (Γ := Γ) (n := n) (S := S) (A := A) hs o1.1 rfl (show gBl (A 8) len p + w.length ≤ len by have := gWE_ge (T := A 8) (len := len) (q := gBl (A 8) len p); omega) h6 w.length 0 xFU (by omega) (by unfold xFU; omega)
    rw [Nat.add_zero, List.drop_zero] at e4
    rw [decide_eq_true c1, Bool.true_and]
    refine ⟨if pIsL (A 8) (gBl (A 8) len p) w = true then va_up J 13 (Int32.ofNat (gBl (A 8) len p + w.length)) else J, ?_, ?_, ?_⟩
    · simp (maxDischargeDepth := 9) only [fX3_takes, xbind, xlet, xpure, tw_sel, tg_0, tg_4, tg_9, tg_12, tg_13, tg_14, tg_15, tg_16, tg_17, tg_18, tg_19, tg_20, tg_21, tg_24, tr_1, tr_2, tr_3, tr_5, tr_6, tr_7, tr_8, tr_10, tr_11, tr_22, tr_23, tp_0, tp_4, tp_9, tp_12, tp_13, tp_14, tp_15, tp_16, tp_17, tp_18, tp_19, tp_20, tp_21, tp_24, va_up_self, va_up_ne, va_uu, i_ofNat, i_add, i_mul, Nat.add_zero, Nat.zero_add, reduceIte, if_true, if_false, Nat.reduceEqDiff, ne_eq, not_false_eq_true, Nat.reduceEqDiff, not_true_eq_false, e0, e1, e3, e2, i1, eq_true c1, fX3_takes_p23, e4]
    · split
      · exact ⟨va_up_self _ _ _, fun j a b => by rw [va_up_ne _ _ a]; exact o1.2 j a b⟩
      · exact o1
    · split
      · rw [va_up_ne _ _ (by decide)]; exact b1
      · exact b1
  · rw [decide_eq_false c1, Bool.false_and]
    refine ⟨J, ?_, ?_, b1⟩
    · have e5 : fX3_takes_p26 xFU m (some a) (Int32.ofNat 0) (Int32.ofNat 0) Γ (tw m J A S h) n = some (.inl (Int32.ofNat 0), tw m J A S h, 0, 0) := by
        obtain ⟨fu, hfu⟩ : ∃ g, xFU = g + 1 := ⟨999999, rfl⟩
        rw [hfu, fX3_takes_p26]
        simp (maxDischargeDepth := 9) only [xbind, xlet, xpure, tw_sel, tg_0, tg_4, tg_9, tg_12, tg_13, tg_14, tg_15, tg_16, tg_17, tg_18, tg_19, tg_20, tg_21, tg_24, tr_1, tr_2, tr_3, tr_5, tr_6, tr_7, tr_8, tr_10, tr_11, tr_22, tr_23, tp_0, tp_4, tp_9, tp_12, tp_13, tp_14, tp_15, tp_16, tp_17, tp_18, tp_19, tp_20, tp_21, tp_24, va_up_self, va_up_ne, va_uu, i_ofNat, i_add, i_mul, Nat.add_zero, Nat.zero_add, reduceIte, if_true, if_false, Nat.reduceEqDiff, ne_eq, not_false_eq_true, Nat.reduceEqDiff, not_true_eq_false, fX3_takes_p69, x_ret0]
      simp (maxDischargeDepth := 9) only [fX3_takes, xbind, xlet, xpure, tw_sel, tg_0, tg_4, tg_9, tg_12, tg_13, tg_14, tg_15, tg_16, tg_17, tg_18, tg_19, tg_20, tg_21, tg_24, tr_1, tr_2, tr_3, tr_5, tr_6, tr_7, tr_8, tr_10, tr_11, tr_22, tr_23, tp_0, tp_4, tp_9, tp_12, tp_13, tp_14, tp_15, tp_16, tp_17, tp_18, tp_19, tp_20, tp_21, tp_24, va_up_self, va_up_ne, va_uu, i_ofNat, i_add, i_mul, Nat.add_zero, Nat.zero_add, reduceIte, if_true, if_false, Nat.reduceEqDiff, ne_eq, not_false_eq_true, Nat.reduceEqDiff, not_true_eq_false, e0, e1, e3, e2, i1, c1, fX3_takes_p22, fX3_takes_p23, e5, b2i_f]
    · rw [if_neg (by decide)]; exact o1
end TP5
