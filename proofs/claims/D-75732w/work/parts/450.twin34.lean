/-! part 450: the twin: variance -/
def pVar (a b r : Int) : UInt64 := FP.ddiv (FP.ddiv (FP.ddiv (FP.dmul (FP.dmul (FP.dmul (dV (a + 1)) (dV (b + 1))) (dV (a - r))) (dV (b - r))) (dV (r + 1))) (dV (r + 1))) (dV (r + 2))
section TW34
variable {Γ : Nat → Option Nat} {m n : Nat} {I : Nat → Int32} {A : Nat → Nat → Int32} {S : Nat → Int64} {h : xH} {s : Nat}
theorem t_variance_no (ok : okN (A 1)) {p q : Int32} (hp : ¬ vS (A 1) p) : fX3_variance m p q Γ (tw m I A S h) n = some (.inl FP.dconst0, tw m (va_up I 0 (Int32.ofNat 1)) A S h, 0, 0) := by
  have e0 := t_noSpecies0 (Γ := Γ) (n := n) (m := m) (I := va_up I 0 (Int32.ofNat 0)) (S := S) (h := h) ok hp
  simp (maxDischargeDepth := 9) only [fX3_variance_p22, fX3_variance, xbind, xlet, xpure, tw_sel, tg_0, tg_4, tg_9, tg_12, tg_13, tg_14, tg_15, tg_16, tg_17, tg_18, tg_19, tg_20, tg_21, tg_24, tr_1, tr_2, tr_3, tr_5, tr_6, tr_7, tr_8, tr_10, tr_11, tr_22, tr_23, tp_0, tp_4, tp_9, tp_12, tp_13, tp_14, tp_15, tp_16, tp_17, tp_18, tp_19, tp_20, tp_21, tp_24, va_up_self, va_up_ne, va_uu, i_ofNat, i_add, i_mul, Nat.add_zero, Nat.zero_add, reduceIte, if_true, if_false, Nat.reduceEqDiff, ne_eq, not_false_eq_true, Nat.reduceEqDiff, not_true_eq_false, e0, i_10]
theorem t_variance0 (ok : okN (A 1)) {g : Nat} {p : Int32} (hs : s < nn (A 1 0)) (hg : A 1 (zI s 12) = Int32.ofNat g) (hg' : g ≤ 20) (hk : ¬ (0 ≤ p.toInt ∧ p.toInt < g)) : fX3_variance m (Int32.ofNat s) p Γ (tw m I A S h) n = some (.inl FP.dconst0, tw m (va_up I 0 (Int32.ofNat 0)) A S h, 0, 0) := by
  have h4 := ok.2.1
  have e0 := t_noSpecies1 (Γ := Γ) (n := n) (m := m) (I := va_up I 0 (Int32.ofNat 0)) (S := S) (h := h) ok (vS_of hs h4)
  have e1 := t_isSighting0 (Γ := Γ) (n := n) (m := m) (I := va_up I 0 (Int32.ofNat 0)) (A := A) (S := S) (h := h) (show s < 4 by omega) hg hg' hk
  simp (maxDischargeDepth := 9) only [fX3_variance_p22, fX3_variance, xbind, xlet, xpure, tw_sel, tg_0, tg_4, tg_9, tg_12, tg_13, tg_14, tg_15, tg_16, tg_17, tg_18, tg_19, tg_20, tg_21, tg_24, tr_1, tr_2, tr_3, tr_5, tr_6, tr_7, tr_8, tr_10, tr_11, tr_22, tr_23, tp_0, tp_4, tp_9, tp_12, tp_13, tp_14, tp_15, tp_16, tp_17, tp_18, tp_19, tp_20, tp_21, tp_24, va_up_self, va_up_ne, va_uu, i_ofNat, i_add, i_mul, Nat.add_zero, Nat.zero_add, reduceIte, if_true, if_false, Nat.reduceEqDiff, ne_eq, not_false_eq_true, Nat.reduceEqDiff, not_true_eq_false, e0, e1]
theorem t_variance1 (ok : okN (A 1)) {g k : Nat} (hs : s < nn (A 1 0)) (hg : A 1 (zI s 12) = Int32.ofNat g) (hg' : g ≤ 20) (hk : k < g) (h0 : 0 ≤ (pSg (A 1) s k 3).toInt) : fX3_variance m (Int32.ofNat s) (Int32.ofNat k) Γ (tw m I A S h) n = some (.inl (pVar (pSg (A 1) s k 1).toInt (pSg (A 1) s k 2).toInt (pSg (A 1) s k 3).toInt), tw m (va_up I 0 (Int32.ofNat 0)) A S h, 0, 0) := by
  have h4 := ok.2.1
  have hs4 : s < 4 := by omega
  have e0 := t_noSpecies1 (Γ := Γ) (n := n) (m := m) (I := va_up I 0 (Int32.ofNat 0)) (S := S) (h := h) ok (vS_of hs h4)
  have e1 := t_isSighting1 (Γ := Γ) (n := n) (m := m) (I := va_up I 0 (Int32.ofNat 0)) (A := A) (S := S) (h := h) hs4 hg hg' hk
  have s1 := t_sightingOf (Γ := Γ) (n := n) (m := m) (I := va_up I 0 (Int32.ofNat 0)) (A := A) (S := S) (h := h) hs4 (show k < 20 by omega) (show 1 < 4 by omega)
  have s2 := t_sightingOf (Γ := Γ) (n := n) (m := m) (I := va_up I 0 (Int32.ofNat 0)) (A := A) (S := S) (h := h) hs4 (show k < 20 by omega) (show 2 < 4 by omega)
  have s3 := t_sightingOf (Γ := Γ) (n := n) (m := m) (I := va_up I 0 (Int32.ofNat 0)) (A := A) (S := S) (h := h) hs4 (show k < 20 by omega) (show 3 < 4 by omega)
  have d1 : ¬ Int32.ofNat 1 = Int32.ofNat 0 := by decide
  have b1 := Int32.le_toInt (pSg (A 1) s k 1)
  have b2 := Int32.toInt_lt (pSg (A 1) s k 1)
  have b3 := Int32.le_toInt (pSg (A 1) s k 2)
  have b4 := Int32.toInt_lt (pSg (A 1) s k 2)
  have b5 := Int32.toInt_lt (pSg (A 1) s k 3)
  have v1 := d_vi (pSg (A 1) s k 1)
  have v2 := d_vi (pSg (A 1) s k 2)
  have v3 := d_vi (pSg (A 1) s k 3)
  generalize (pSg (A 1) s k 1).toInt = a at *
  generalize (pSg (A 1) s k 2).toInt = b at *
  generalize (pSg (A 1) s k 3).toInt = r at *
  have p1 := d_vadd (i := a) (j := 1) (by omega) (by omega) (by omega)
  have p2 := d_vadd (i := b) (j := 1) (by omega) (by omega) (by omega)
  have p3 := d_vsub (i := a) (j := r) (by omega) (by omega) (by omega)
  have p4 := d_vsub (i := b) (j := r) (by omega) (by omega) (by omega)
  have p5 := d_vadd (i := r) (j := 1) (by omega) (by omega) (by omega)
  have p6 := d_vadd (i := r) (j := 2) (by omega) (by omega) (by omega)
  have f1 := dB.v (i := a + 1) (by omega)
  have f2 := dB.v (i := b + 1) (by omega)
  have f3 := dB.v (i := a - r) (by omega)
  have f4 := dB.v (i := b - r) (by omega)
  have f5 := dNz.v (i := r + 1) (by omega) (by omega)
  have f6 := dNz.v (i := r + 2) (by omega) (by omega)
  have g1 := f1.mul f2 (by omega) (by omega)
  have g2 := g1.mul f3 (by omega) (by omega)
  have g3 := g2.mul f4 (by omega) (by omega)
  have g4 := g3.fin.num.div f5
  have g5 := g4.div f5
  have w1 := fun (k : xM UInt64) => x_nan (k := k) (d_addOk (dFin.v (i := a) (by omega)).num (dFin.v (i := 1) (by omega)))
  have q1 := fun (k : xM UInt64) => x_dadd (k := k) (dFin.v (i := a) (by omega)).num (dFin.v (i := 1) (by omega))
  have q2 := fun (k : xM UInt64) => x_dadd (k := k) (dFin.v (i := b) (by omega)).num (dFin.v (i := 1) (by omega))
  have q3 := fun (k : xM UInt64) => x_dsub (k := k) (dFin.v (i := a) (by omega)).num (dFin.v (i := r) (by omega))
  have q4 := fun (k : xM UInt64) => x_dsub (k := k) (dFin.v (i := b) (by omega)).num (dFin.v (i := r) (by omega))
  have q5 := fun (k : xM UInt64) => x_dadd (k := k) (dFin.v (i := r) (by omega)).num (dFin.v (i := 1) (by omega))
  have q6 := fun (k : xM UInt64) => x_dadd (k := k) (dFin.v (i := r) (by omega)).num (dFin.v (i := 2) (by omega))
  rw [p1] at q1
  rw [p2] at q2
  rw [p3] at q3
  rw [p4] at q4
  rw [p5] at q5
  rw [p6] at q6
  have m1 := fun (k : xM UInt64) => x_dmul2 (k := k) f1.fin f2.fin
  have m2 := fun (k : xM UInt64) => x_dmul2 (k := k) g1.fin f3.fin
  have m3 := fun (k : xM UInt64) => x_dmul2 (k := k) g2.fin f4.fin
  have m4 := fun (k : xM UInt64) => x_ddiv (k := k) g3.fin.num f5
  have m5 := fun (k : xM UInt64) => x_ddiv (k := k) g4 f5
  have m6 := fun (k : xM UInt64) => x_ddiv (k := k) g5 f6
  unfold pVar
  simp (maxDischargeDepth := 9) only [fX3_variance_p22, fX3_variance, xbind, xlet, xpure, tw_sel, tg_0, tg_4, tg_9, tg_12, tg_13, tg_14, tg_15, tg_16, tg_17, tg_18, tg_19, tg_20, tg_21, tg_24, tr_1, tr_2, tr_3, tr_5, tr_6, tr_7, tr_8, tr_10, tr_11, tr_22, tr_23, tp_0, tp_4, tp_9, tp_12, tp_13, tp_14, tp_15, tp_16, tp_17, tp_18, tp_19, tp_20, tp_21, tp_24, va_up_self, va_up_ne, va_uu, i_ofNat, i_add, i_mul, Nat.add_zero, Nat.zero_add, reduceIte, if_true, if_false, Nat.reduceEqDiff, ne_eq, not_false_eq_true, Nat.reduceEqDiff, not_true_eq_false, e0, e1, d1, s1, s2, s3, v1, v2, v3, d_v1, d_v2, p1, p2, p3, p4, p5, p6, q1, q2, q3, q4, q5, q6, m1, m2, m3, m4, m5, m6]
end TW34
