/-! part 535: the ledger query -/
section KLE
variable {Γ : Nat → Option Nat} {h : xH} {n x sd al ae pl t m : Nat} {E : Nat → Nat → Nat} {P FE e ps V la : Nat → Nat} {N L : Nat → Int32} {Z : Nat → Prop}
theorem k_ledgerOf1 (W : kW h x sd al ae pl E P FE N) (ht : t < nn (N 0)) (hb : xbd n h) (hc : kCa Γ h) (B : kBo h (P t) m e ps V N L t) (hz : Z (E t 4)) {z : Int32} (c : (pFY N : Int) ≤ z.toInt ∧ z.toInt ≤ nn (N 1)) : ∃ v h' dc ds, xsel (some x) [(0, fun q => fX1_ledgerOf q (Int32.ofNat t) z)] Γ h n = some (.inl (some v), h', dc, ds) ∧ dc ≤ 1 ∧ ds ≤ 1 ∧ hq Z h h' ∧ xbd (n + dc) h' ∧ yO h' 22 v ∧ ∀ w, w < 7 → yi h' 22 w v = pLP L N t (z.toInt.toNat - pFY N) w := by
  obtain ⟨r, h', dc, ds, e1, e2, e3, e4, e5, e6, e7⟩ := k_hLed W ht hb hc B hz z
  obtain ⟨v, rfl, r1, r2⟩ := e7 c
  refine ⟨v, h', dc, ds, ?_, e2, e3, e4, e5, r1, r2⟩
  have i1 : (1 : Int32) = Int32.ofNat 1 := rfl
  rw [kw_x W]
  unfold fX1_ledgerOf
  rw [x_b1 (kw_x W |>.trans (k_herd1 W ht)), x_b1 (kw_now W), x_b1 (kw_year W), x_bc ((kh_sel (kw_hd W ht)).trans e1), if_neg (fun z => nomatch z)]
  unfold fX1_ledgerOf_p26
  rw [i1, x_b1 k_there1]
  rfl
theorem k_ledgerOf2 (W : kW h x sd al ae pl E P FE N) (ht : t < nn (N 0)) (hb : xbd n h) (hc : kCa Γ h) (B : kBo h (P t) m e ps V N L t) (hz : Z (E t 4)) {z : Int32} (c : ¬ ((pFY N : Int) ≤ z.toInt ∧ z.toInt ≤ nn (N 1))) : kTh5 Z (xsel (some x) [(0, fun q => fX1_ledgerOf q (Int32.ofNat t) z)]) Γ h n 10 := by
  obtain ⟨r, h', dc, ds, e1, e2, e3, e4, e5, e6, e7⟩ := k_hLed W ht hb hc B hz z
  obtain rfl := e6 c
  have i0 : (0 : Int32) = Int32.ofNat 0 := rfl
  refine ⟨n + dc, kNx h' (n + dc) 10, dc + 1, ds + 6, ?_, by omega, by omega, e4.trans (kNx_sub (e5 _ (Nat.le_refl _))).q, by rw [← Nat.add_assoc]; exact xbd_up1 e5, kNx_O rfl⟩
  rw [kw_x W]
  unfold fX1_ledgerOf
  rw [x_b1 (kw_x W |>.trans (k_herd1 W ht)), x_b1 (kw_now W), x_b1 (kw_year W), x_bc ((kh_sel (kw_hd W ht)).trans e1), if_pos rfl]
  unfold fX1_ledgerOf_p26
  rw [i0, x_bx k_there0]
  rfl
theorem k_ledgerOf0 (W : kW h x sd al ae pl E P FE N) {p z : Int32} (hp : ¬ vS N p) : xsel (some x) [(0, fun q => fX1_ledgerOf q p z)] Γ h n = some (.inr n, kNx h n 8, 1, 6) := by
  rw [kw_x W]
  unfold fX1_ledgerOf
  rw [x_bx (kw_x W |>.trans (k_herd0 W hp))]
theorem kTh5.bind {α β : Type} {c : xM α} {f : α → xM β} {ci : Nat} (H : kTh5 Z c Γ h n ci) : kTh5 Z (xbind c f) Γ h n ci := by
  obtain ⟨q, h', dc, ds, e1, r⟩ := H
  exact ⟨q, h', dc, ds, x_bx e1, r⟩
theorem k_ledger1 (W : kW h x sd al ae pl E P FE N) (ht : t < nn (N 0)) (hb : xbd n h) (hc : kCa Γ h) (hm : kLm Γ h la) (B : kBo h (P t) m e ps V N L t) (hz : Z (E t 4)) {y w : Nat} (c1 : pFY N ≤ y) (c2 : y ≤ nn (N 1)) (hw : w ≤ 6) : ∃ h' dc ds, fX1_ledger x (Int32.ofNat t) (Int32.ofNat y) (Int32.ofNat w) Γ h n = some (.inl (pLP L N t (y - pFY N) w), h', dc, ds) ∧ dc ≤ 2 ∧ ds ≤ 8 ∧ hq Z h h' ∧ xbd (n + dc) h' := by
  have b1 := W.2.2.1.2.2.2.1
  have zi : (Int32.ofNat y).toInt = y := i_toInt (by omega)
  obtain ⟨v, h1, dc, ds, e1, e2, e3, e4, e5, e6, e7⟩ := k_ledgerOf1 W ht hb hc B hz (z := Int32.ofNat y) (by rw [zi]; omega)
  obtain ⟨f, p1⟩ := k_prt (n := n + dc) (hm.hq e4) e5 (show w < 7 by omega)
  have s2 : hsub h1 (kRo h1 (n + dc) f) := hsub_up (e5 _ (Nat.le_refl _))
  have m2 := (hm.hq e4).mono s2
  have r1 := k_sel7 (Γ := Γ) (n := n + dc + 1) m2 (show w < 7 by omega) (hO e6 s2)
  rw [yi_c (s2 _ (yO_at e6)), e7 w (by omega), zi] at r1
  refine ⟨kRo h1 (n + dc) f, dc + 1, ds + 7, ?_, by omega, by omega, e4.trans s2.q, by rw [← Nat.add_assoc]; exact xbd_up1 e5⟩
  have i0 : (0 : Int32) = Int32.ofNat 0 := rfl
  have i6 : (6 : Int32) = Int32.ofNat 6 := rfl
  have d1 : decide (Int32.ofNat 0 ≤ Int32.ofNat w ∧ Int32.ofNat w ≤ Int32.ofNat 6) = true := decide_eq_true ((i_rngI (by decide) (by decide)).mpr (by rw [i_toInt (by omega)]; omega))
  unfold fX1_ledger
  rw [x_bc e1, i0, i6, x_b1 (k_inRange _ _ _), d1, b2i_t, x_b1 k_there1, x_bc p1, x_b1 r1]
  rfl
theorem k_ledger2 (W : kW h x sd al ae pl E P FE N) (ht : t < nn (N 0)) (hb : xbd n h) (hc : kCa Γ h) (B : kBo h (P t) m e ps V N L t) (hz : Z (E t 4)) {z q : Int32} (c : ¬ (((pFY N : Int) ≤ z.toInt ∧ z.toInt ≤ nn (N 1)) ∧ 0 ≤ q.toInt ∧ q.toInt ≤ 6)) : kTh5 Z (fX1_ledger x (Int32.ofNat t) z q) Γ h n 10 := by
  unfold fX1_ledger
  by_cases c1 : (pFY N : Int) ≤ z.toInt ∧ z.toInt ≤ nn (N 1)
  · obtain ⟨v, h1, dc, ds, e1, e2, e3, e4, e5, e6, e7⟩ := k_ledgerOf1 W ht hb hc B hz c1
    have i0 : (0 : Int32) = Int32.ofNat 0 := rfl
    have i6 : (6 : Int32) = Int32.ofNat 6 := rfl
    have d1 : decide (Int32.ofNat 0 ≤ q ∧ q ≤ Int32.ofNat 6) = false := decide_eq_false (fun z => c ⟨c1, (i_rngI (by decide) (by decide)).mp z⟩)
    refine ⟨n + dc, kNx h1 (n + dc) 10, dc + 1, ds + 6, ?_, by omega, by omega, e4.trans (kNx_sub (e5 _ (Nat.le_refl _))).q, by rw [← Nat.add_assoc]; exact xbd_up1 e5, kNx_O rfl⟩
    rw [x_bc e1, i0, i6, x_b1 (k_inRange _ _ _), d1, b2i_f, x_bx k_there0]
    rfl
  · exact (k_ledgerOf2 W ht hb hc B hz c1).bind
theorem k_ledger0 (W : kW h x sd al ae pl E P FE N) {p z q : Int32} (hp : ¬ vS N p) : fX1_ledger x p z q Γ h n = some (.inr n, kNx h n 8, 1, 6) := by
  unfold fX1_ledger
  rw [x_bx (k_ledgerOf0 W hp)]
end KLE
