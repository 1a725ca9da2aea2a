/-! part 531: closingUpTo -/
section KCU
variable {Γ : Nat → Option Nat} {h : xH} {n x sd al ae pl t m : Nat} {E : Nat → Nat → Nat} {P FE e ps V : Nat → Nat} {N L : Nat → Int32}
theorem k_closingUpTo1 (W : kW h x sd al ae pl E P FE N) (ht : t < nn (N 0)) (hb : xbd n h) (hc : kCa Γ h) (B : kBo h (P t) m e ps V N L t) (z : Int32) : ∃ h' dc ds, fX1_closingUpTo x (Int32.ofNat t) z Γ h n = some (.inl (pClU L N t z), h', dc, ds) ∧ dc ≤ 2 ∧ ds ≤ 3 ∧ hsub h h' ∧ xbd (n + dc) h' := by
  have hP : yO h 20 (P t) := (W.2.2.2.2 t ht).1.1
  have g5 := e_gR (Γ := Γ) (n := n) hP kn20_5
  rw [B.1] at g5
  obtain ⟨ka, h1, dc, ds, v1, v2, v3, v4, v5, v6, v7⟩ := k_valueI (v := z) hc hb
  have B1 := B.mono hP v4
  obtain ⟨q, h2, dc2, ds2, f1, f2, f3, f4, f5, f6, f7⟩ := k_floor (Γ := Γ) (n := n + dc) B1.2.2.1 v6 v7 v5
  have hy := W.2.2.1.2.2.1
  have hN1 := W.2.2.1.2.2.2.1
  refine ⟨h2, dc + dc2, ds + ds2, ?_, by omega, by omega, v4.trans f4, by rw [← Nat.add_assoc]; exact f5⟩
  unfold fX1_closingUpTo
  rw [x_b1 (kw_x W |>.trans (k_herd1 W ht)), x_b1 (kh_0 (kw_hd W ht)), x_b1 g5, x_bc v1, x_bc f1]
  have nI : ∀ v : Int32, 0 ≤ v.toInt → ((nn v : Nat) : Int) = v.toInt := fun v hv => by unfold nn Int32.toNatClampNeg; omega
  by_cases c : (pFY N : Int) ≤ z.toInt ∧ 0 < nn (N 2)
  · obtain ⟨cc, rfl, c2, c3⟩ := f7 c
    generalize hj : (if z.toInt < (pFY N : Int) + (nn (N 2) : Nat) then (z.toInt - (pFY N : Int)).toNat else nn (N 2) - 1) = j at c3
    have yk : pFY N + nn (N 2) = nn (N 1) := by unfold pFY; have := B.2.1; omega
    have jk : j < nn (N 2) := by rw [← hj]; split <;> omega
    have hV := (B1.2.2.2 j jk)
    have hV2 := hO hV.1 f4
    have g1 := e_gR (Γ := Γ) (n := n + dc + dc2) c2 kn31_1
    rw [c3] at g1
    have g2 := e_gI (Γ := Γ) (n := n + dc + dc2) hV2 kn22_5
    rw [yi_c (f4 _ (yO_at hV.1)), hV.2 5 (by omega)] at g2
    have r1 : xsel (some cc) [(31, fun z => fJ35_getValue z)] Γ h2 (n + dc + dc2) = some (.inl (some (V j)), h2, 0, 0) := by
      rw [e_sel c2]
      unfold fJ35_getValue
      rw [x_b1 g1]
      rfl
    rw [if_neg (fun z => nomatch z), x_b1 r1, x_b1 (k_cst hV2 rfl), x_b1 g2]
    have ep : pClU L N t z = L ((j * 4 + t) * 7 + 5) := by
      unfold pClU
      have im := imin_int z (Int32.ofNat (nn (N 1) - 1))
      rw [i_toInt (by omega)] at im
      have le : Int32.ofNat (pFY N) ≤ imin z (Int32.ofNat (nn (N 1) - 1)) := by
        rw [Int32.le_iff_toInt_le, im, i_toInt (by omega)]
        omega
      have ij : nn (imin z (Int32.ofNat (nn (N 1) - 1))) - pFY N = j := by
        have := nI (imin z (Int32.ofNat (nn (N 1) - 1))) (by omega)
        rw [← hj]
        split <;> omega
      rw [if_neg (by omega), if_pos le, ij]
      unfold pLP
      rw [if_neg (by omega)]
    rw [ep]
    rfl
  · rw [f6 c, if_pos rfl]
    have ep : pClU L N t z = -Int32.ofNat 1 := by
      unfold pClU
      by_cases k0 : nn (N 2) = 0
      · rw [if_pos k0]
      · have yk : pFY N + nn (N 2) = nn (N 1) := by unfold pFY; have := B.2.1; omega
        have im := imin_int z (Int32.ofNat (nn (N 1) - 1))
        rw [i_toInt (by omega)] at im
        rw [if_neg k0, if_neg]
        rw [Int32.le_iff_toInt_le, im, i_toInt (by omega)]
        omega
    rw [ep]
    rfl
theorem k_closingUpTo0 (W : kW h x sd al ae pl E P FE N) {p q : Int32} (hp : ¬ vS N p) : fX1_closingUpTo x p q Γ h n = some (.inr n, kNx h n 8, 1, 6) := by
  unfold fX1_closingUpTo
  exact x_bx (kw_x W |>.trans (k_herd0 W hp))
end KCU
