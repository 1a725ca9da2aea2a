/-! part 512: the component: what is asked of the present state -/
section KQ
variable {Γ : Nat → Option Nat} {h : xH} {n : Nat} {x st al ae pl : Nat} {E : Nat → Nat → Nat} {P FE : Nat → Nat} {N : Nat → Int32} {t : Nat}
theorem kw_12 (W : kW h x st al ae pl E P FE N) (ht : t < nn (N 0)) : nn (N (zI t 1)) ≤ 12 ∧ N (zI t 1) = Int32.ofNat (nn (N (zI t 1))) ∧ t < 4 := by
  have a := W.2.2.1.2.2.2.2.2.2.2.2.1 t ht
  have b := W.2.2.1.2.1
  exact ⟨a.2.1, a.1, by omega⟩
theorem kw_sp (W : kW h x st al ae pl E P FE N) (ht : t < nn (N 0)) : kSpN h (P t) (FE t) N t := W.2.2.2.2 t ht
theorem k_herdWith1 (W : kW h x st al ae pl E P FE N) (ht : t < nn (N 0)) {j : Nat} (hj : j ≤ nn (N (zI t 1))) : fX1_herdWith x (Int32.ofNat t) (Int32.ofNat j) Γ h n = some (.inl (some (E t 0)), h, 0, 0) := by
  have b := kw_12 W ht
  have e1 := k_checkIndex1 (Γ := Γ) (h := h) (n := n) (i := j) (c := nn (N (zI t 1)) + 1) (by omega) (by omega)
  simp only [fX1_herdWith, xbind, xpure, kw_x W, k_herd1 W ht, kh_0 (kw_hd W ht), kp_1 (kw_sp W ht).1, i_ofNat, i_add, e1, Nat.add_zero]
theorem k_herdWith0 (W : kW h x st al ae pl E P FE N) {p q : Int32} (hp : ¬ vA N p q) : fX1_herdWith x p q Γ h n = some (.inr n, kNx h n 8, 1, 6) := by
  by_cases hv : vS N p
  · obtain ⟨t, rfl, ht⟩ : ∃ t, p = Int32.ofNat t ∧ t < nn (N 0) := ⟨nn p, i_pos hv.1, by have := i_nn hv.1; have := hv.2; omega⟩
    have b := kw_12 W ht
    have hn : nn (Int32.ofNat t) = t := nn_of (by omega)
    have e1 := k_checkIndex0 (Γ := Γ) (h := h) (n := n) (i := q) (c := nn (N (zI t 1)) + 1) (by omega) (by
      rintro ⟨q1, q2⟩
      exact hp ⟨hv, q1, by rw [hn]; omega⟩)
    simp only [fX1_herdWith, xbind, xpure, kw_x W, k_herd1 W ht, kh_0 (kw_hd W ht), kp_1 (kw_sp W ht).1, i_ofNat, i_add, e1, Nat.add_zero, Nat.zero_add]
  · simp only [fX1_herdWith, xbind, xpure, kw_x W, k_herd0 W hv]
theorem k_survival1 (W : kW h x st al ae pl E P FE N) (ht : t < nn (N 0)) {j : Nat} (hj : j ≤ nn (N (zI t 1))) : fX1_survival x (Int32.ofNat t) (Int32.ofNat j) Γ h n = some (.inl (N (zI t (13 + j))), h, 0, 0) := by
  simp only [fX1_survival, xbind, xpure, kw_x W, k_herdWith1 W ht hj, kh_1 (kw_hd W ht), kh_sv (kw_hd W ht) hj (kw_12 W ht).1, Nat.add_zero]
theorem k_survival0 (W : kW h x st al ae pl E P FE N) {p q : Int32} (hp : ¬ vA N p q) : fX1_survival x p q Γ h n = some (.inr n, kNx h n 8, 1, 6) := by
  simp only [fX1_survival, xbind, kw_x W, k_herdWith0 W hp]
theorem k_fecundity1 (W : kW h x st al ae pl E P FE N) (ht : t < nn (N 0)) {j : Nat} (hj : j ≤ nn (N (zI t 1))) : fX1_fecundity x (Int32.ofNat t) (Int32.ofNat j) Γ h n = some (.inl (N (zI t (26 + j))), h, 0, 0) := by
  have b := kw_12 W ht
  simp only [fX1_fecundity, xbind, xpure, kw_x W, k_herdWith1 W ht hj, kh_0 (kw_hd W ht), kp_2 (kw_sp W ht).1, kp_fe (kw_sp W ht) (show j < 13 by omega), Nat.add_zero]
theorem k_fecundity0 (W : kW h x st al ae pl E P FE N) {p q : Int32} (hp : ¬ vA N p q) : fX1_fecundity x p q Γ h n = some (.inr n, kNx h n 8, 1, 6) := by
  simp only [fX1_fecundity, xbind, kw_x W, k_herdWith0 W hp]
theorem kh_cohort {Y : Nat → Nat} {p s : Nat} (H : kHd h Y p N s) {j : Nat} (hj : j < 13) : fX6_cohort (Y 0) (Int32.ofNat j) Γ h n = some (.inl (N (zI s (39 + j))), h, 0, 0) := by
  simp only [fX6_cohort, xbind, xpure, kh_2 H, kh_co H, kh_coh H hj, Nat.add_zero]
theorem k_cohort1 (W : kW h x st al ae pl E P FE N) (ht : t < nn (N 0)) {j : Nat} (hj : j ≤ nn (N (zI t 1))) : fX1_cohort x (Int32.ofNat t) (Int32.ofNat j) Γ h n = some (.inl (N (zI t (39 + j))), h, 0, 0) := by
  have b := kw_12 W ht
  simp only [fX1_cohort, xbind, xpure, kw_x W, k_herdWith1 W ht hj, kh_sel (kw_hd W ht), kh_cohort (kw_hd W ht) (show j < 13 by omega), Nat.add_zero]
theorem k_cohort0 (W : kW h x st al ae pl E P FE N) {p q : Int32} (hp : ¬ vA N p q) : fX1_cohort x p q Γ h n = some (.inr n, kNx h n 8, 1, 6) := by
  simp only [fX1_cohort, xbind, kw_x W, k_herdWith0 W hp]
theorem kh_alive_p5 {Y : Nat → Nat} {p s a : Nat} (H : kHd h Y p N s) (h12 : nn (N (zI s 1)) ≤ 12) (ha : a ≤ nn (N (zI s 1)) + 1) : ∀ (k j fu : Nat) (v : Int32), j + k = a → k < fu → fX6_alive_p5 fu (Y 0) (Int32.ofNat a) v (Int32.ofNat j) Γ h n = some (.inl (pAlive N s j k v), h, 0, 0) := by
  have z1000 : ¬ (1000 : Int64) = 0 := by decide
  intro k
  induction k with
  | zero =>
    intro j fu v hj hf
    obtain ⟨fu, rfl⟩ : ∃ g, fu = g + 1 := ⟨fu - 1, by omega⟩
    have c1 : Int32.ofNat a ≤ Int32.ofNat j := by rw [i_le (by omega) (by omega)]; omega
    rw [fX6_alive_p5, pAlive]
    simp only [if_pos c1, xpure]
  | succ k ih =>
    intro j fu v hj hf
    obtain ⟨fu, rfl⟩ : ∃ g, fu = g + 1 := ⟨fu - 1, by omega⟩
    have c1 : ¬ Int32.ofNat a ≤ Int32.ofNat j := by rw [i_le (by omega) (by omega)]; omega
    have e1 := ih (j + 1) fu (pGone v (N (zI s (13 + j)))) (by omega) (by omega)
    unfold pGone at e1
    rw [fX6_alive_p5, pAlive]
    unfold pGone
    simp only [if_neg c1, xbind, xlet, kh_1 H, kh_sv H (show j ≤ nn (N (zI s 1)) by omega) h12, xdvJ, if_neg z1000, i_ofNat, i_add, e1, Nat.add_zero]
theorem kh_alive {Y : Nat → Nat} {p s a : Nat} (H : kHd h Y p N s) (h12 : nn (N (zI s 1)) ≤ 12) (ha : a ≤ nn (N (zI s 1)) + 1) : fX6_alive (Y 0) (Int32.ofNat a) Γ h n = some (.inl (pAliveOf N s a), h, 0, 0) := by
  have e1 := kh_alive_p5 (Γ := Γ) (n := n) H h12 ha a 0 xFU (Int32.ofNat 100000) (by omega) (by unfold xFU; omega)
  simp only [fX6_alive, xlet, i_ofNat, e1]
  rfl
theorem k_alive1 (W : kW h x st al ae pl E P FE N) (ht : t < nn (N 0)) {j : Nat} (hj : j ≤ nn (N (zI t 1))) : fX1_alive x (Int32.ofNat t) (Int32.ofNat j) Γ h n = some (.inl (pAliveOf N t j), h, 0, 0) := by
  have b := kw_12 W ht
  simp only [fX1_alive, xbind, xpure, kw_x W, k_herdWith1 W ht hj, kh_sel (kw_hd W ht), kh_alive (kw_hd W ht) b.1 (show j ≤ nn (N (zI t 1)) + 1 by omega), Nat.add_zero]
theorem k_alive0 (W : kW h x st al ae pl E P FE N) {p q : Int32} (hp : ¬ vA N p q) : fX1_alive x p q Γ h n = some (.inr n, kNx h n 8, 1, 6) := by
  simp only [fX1_alive, xbind, kw_x W, k_herdWith0 W hp]
theorem k_dying1 (W : kW h x st al ae pl E P FE N) (ht : t < nn (N 0)) {j : Nat} (hj : j ≤ nn (N (zI t 1))) : fX1_dying x (Int32.ofNat t) (Int32.ofNat j) Γ h n = some (.inl (if j = nn (N (zI t 1)) then pAliveOf N t j - Int32.ofNat 0 else pAliveOf N t j - pAliveOf N t (j + 1)), h, 0, 0) := by
  have b := kw_12 W ht
  have i1 : (Int32.ofNat j = Int32.ofNat (nn (N (zI t 1)))) ↔ j = nn (N (zI t 1)) := i_eq (by omega) (by omega)
  have s0 : pAliveOf N t j - Int32.ofNat 0 = pAliveOf N t j := Int32.sub_zero _
  by_cases c : j = nn (N (zI t 1))
  · have c' := i1.mpr c
    simp only [fX1_dying, xbind, xpure, kw_x W, k_herdWith1 W ht hj, kh_0 (kw_hd W ht), kp_1 (kw_sp W ht).1, if_pos c', kh_sel (kw_hd W ht), kh_alive (kw_hd W ht) b.1 (show j ≤ nn (N (zI t 1)) + 1 by omega), if_pos c, s0, Nat.add_zero]
  · have c' := fun q => c (i1.mp q)
    simp only [fX1_dying, xbind, xpure, kw_x W, k_herdWith1 W ht hj, kh_0 (kw_hd W ht), kp_1 (kw_sp W ht).1, if_neg c', kh_sel (kw_hd W ht), kh_alive (kw_hd W ht) b.1 (show j ≤ nn (N (zI t 1)) + 1 by omega), i_ofNat, i_add, kh_alive (kw_hd W ht) b.1 (show j + 1 ≤ nn (N (zI t 1)) + 1 by omega), if_neg c, Nat.add_zero]
theorem k_dying0 (W : kW h x st al ae pl E P FE N) {p q : Int32} (hp : ¬ vA N p q) : fX1_dying x p q Γ h n = some (.inr n, kNx h n 8, 1, 6) := by
  simp only [fX1_dying, xbind, kw_x W, k_herdWith0 W hp]
theorem k_expectation_p15 {Y : Nat → Nat} {p fe s a : Nat} (H : kHd h Y p N s) (hp : kSpN h p fe N s) (ha : a ≤ nn (N (zI s 1))) : ∀ (k j fu : Nat) (v : Int32), j + k = nn (N (zI s 1)) + 1 → k < fu → fX1_expectation_p15 fu (Int32.ofNat a) (some (Y 0)) v (Int32.ofNat j) Γ h n = some (.inl (if pAliveOf N s a = Int32.ofNat 0 then FP.dconst0 else FP.dadd (FP.ddiv (FP.i2d (pSumA N s j k v)) (FP.i2d (pAliveOf N s a))) (4602678819172646912 : UInt64)), h, 0, 0) := by
  have h12 := hp.1.2.2.2.2.2.2.1
  intro k
  induction k with
  | zero =>
    intro j fu v hj hf
    obtain ⟨fu, rfl⟩ : ∃ g, fu = g + 1 := ⟨fu - 1, by omega⟩
    have c1 : Int32.ofNat (nn (N (zI s 1))) < Int32.ofNat j := by rw [i_lt (by omega) (by omega)]; omega
    rw [fX1_expectation_p15]
    by_cases hz : pAliveOf N s a = Int32.ofNat 0
    · simp only [xbind, kh_0 H, kp_1 hp.1, if_pos c1, kh_sel H, kh_alive H h12 (show a ≤ nn (N (zI s 1)) + 1 by omega), i_ofNat, if_pos hz, xpure, Nat.add_zero]
    · have q1 := fun (k : xM UInt64) => x_ddiv (k := k) (dFin.i2d v).num (dNz.i2d (d_i0 hz))
      have q2 := fun (k : xM UInt64) => x_dadd (k := k) (dNum.div (dFin.i2d v).num (dNz.i2d (d_i0 hz))) d_half
      simp only [xbind, kh_0 H, kp_1 hp.1, if_pos c1, kh_sel H, kh_alive H h12 (show a ≤ nn (N (zI s 1)) + 1 by omega), i_ofNat, if_neg hz, q1, q2, xpure, pSumA, Nat.add_zero]
  | succ k ih =>
    intro j fu v hj hf
    obtain ⟨fu, rfl⟩ : ∃ g, fu = g + 1 := ⟨fu - 1, by omega⟩
    have c1 : ¬ Int32.ofNat (nn (N (zI s 1))) < Int32.ofNat j := by rw [i_lt (by omega) (by omega)]; omega
    have e2 := ih (j + 1) fu (v + pAliveOf N s j) (by omega) (by omega)
    rw [fX1_expectation_p15]
    simp only [xbind, xlet, kh_0 H, kp_1 hp.1, if_neg c1, kh_sel H, kh_alive H h12 (show j ≤ nn (N (zI s 1)) + 1 by omega), i_ofNat, i_add, pSumA, e2, Nat.add_zero]
theorem k_expectation1 (W : kW h x st al ae pl E P FE N) (ht : t < nn (N 0)) {j : Nat} (hj : j ≤ nn (N (zI t 1))) : fX1_expectation x (Int32.ofNat t) (Int32.ofNat j) Γ h n = some (.inl (pExpc N t j), h, 0, 0) := by
  have b := kw_12 W ht
  have e1 := k_expectation_p15 (Γ := Γ) (n := n) (kw_hd W ht) (kw_sp W ht) hj (nn (N (zI t 1)) - j) (j + 1) xFU (Int32.ofNat 0) (by omega) (by unfold xFU; omega)
  simp only [fX1_expectation, xbind, xlet, kw_x W, k_herdWith1 W ht hj, i_ofNat, i_add, e1, Nat.add_zero]
  rfl
theorem k_expectation0 (W : kW h x st al ae pl E P FE N) {p q : Int32} (hp : ¬ vA N p q) : fX1_expectation x p q Γ h n = some (.inr n, kNx h n 8, 1, 6) := by
  simp only [fX1_expectation, xbind, kw_x W, k_herdWith0 W hp]
/-! a deque's size; the parts of a species -/
theorem kd_size {d e : Nat} {Q : List Nat} (H : kDq h d e Q) : xsel (some d) [(23, fun z => fJ27_size z)] Γ h n = some (.inl (Int32.ofNat Q.length), h, 0, 0) := by
  obtain ⟨a1, a2, a3, hd, cap, b1, b2, b3, b4, b5, b6, b7⟩ := H
  have a1 := yO_of _ _ _ a1
  have e1 : xlen (some e) Γ h n = some (.inl (Int32.ofNat cap), h, 0, 0) := by rw [e_len (yA_of _ _ _ a3), b1]
  by_cases c : hd + Q.length < cap
  · rw [Nat.mod_eq_of_lt c] at b6
    have s1 : Int32.ofNat (hd + Q.length) - Int32.ofNat hd = Int32.ofNat Q.length := by rw [i_sub (by omega), Nat.add_sub_cancel_left]
    have c1 : Int32.ofNat 0 ≤ Int32.ofNat Q.length := by rw [i_le (by omega) (by omega)]; omega
    simp only [e_sel a1, fJ27_size, fJ27_sub, xbind, xlet, xpure, e_gI a1 kn23_2, e_gI a1 kn23_1, e_gR a1 kn23_0, a2, b5, b6, e1, s1, i_ofNat, if_pos c1, Nat.add_zero]
  · have m1 : (hd + Q.length) % cap = hd + Q.length - cap := by rw [Nat.mod_eq_sub_mod (by omega), Nat.mod_eq_of_lt (by omega)]
    rw [m1] at b6
    have s1 : (Int32.ofNat (hd + Q.length - cap) - Int32.ofNat hd) + Int32.ofNat cap = Int32.ofNat Q.length := by
      rw [Int32.sub_eq_add_neg, Int32.add_assoc, Int32.add_comm (-Int32.ofNat hd), ← Int32.sub_eq_add_neg, i_sub (by omega), i_add]
      congr 1
      omega
    have c1 : ¬ Int32.ofNat 0 ≤ Int32.ofNat (hd + Q.length - cap) - Int32.ofNat hd := by
      rw [Int32.le_iff_toInt_le, Int32.toInt_sub, i_toInt (show 0 < 2147483648 by decide), i_toInt (show hd + Q.length - cap < 2147483648 by omega), i_toInt (show hd < 2147483648 by omega)]
      have : (((hd + Q.length - cap : Nat) : Int) - (hd : Int)).bmod (2 ^ 32) = ((hd + Q.length - cap : Nat) : Int) - (hd : Int) := by
        rw [Int.bmod_eq_of_le] <;> omega
      omega
    simp only [e_sel a1, fJ27_size, fJ27_sub, xbind, xlet, xpure, e_gI a1 kn23_2, e_gI a1 kn23_1, e_gR a1 kn23_0, a2, b5, b6, e1, i_ofNat, if_neg c1, s1, Nat.add_zero]
theorem kh_left {Y : Nat → Nat} {p s : Nat} (H : kHd h Y p N s) : fX6_left (Y 0) Γ h n = some (.inl (imax (Int32.ofNat 0) (N (zI s 5) - N (zI s 10))), h, 0, 0) := by
  simp only [fX6_left, xbind, xpure, kh_6 H, kh_l6 H, kh_l3 H, i_ofNat, i_ix, Nat.add_zero]
end KQ
