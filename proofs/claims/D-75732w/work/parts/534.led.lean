/-! part 534: a ledger is asked for -/
/-- a throw behind quiet changes -/
def kTh5 {α : Type} (Z : Nat → Prop) (c : xM α) (Γ : Nat → Option Nat) (h : xH) (n ci : Nat) : Prop := ∃ q h' dc ds, c Γ h n = some (.inr q, h', dc, ds) ∧ dc ≤ 100 ∧ ds ≤ 1000 ∧ hq Z h h' ∧ xbd (n + dc) h' ∧ yO h' ci q
section KLD
variable {Γ : Nat → Option Nat} {h : xH} {n x sd al ae pl t m : Nat} {E : Nat → Nat → Nat} {P FE e ps V : Nat → Nat} {N L : Nat → Int32} {Z : Nat → Prop}
/-- the open ledger, brought up to date -/
theorem k_hOpen (W : kW h x sd al ae pl E P FE N) (ht : t < nn (N 0)) : fX6_ledger (E t 0) (N 1) (N 1) Γ h n = some (.inl (some (E t 4)), ysi h 22 5 (E t 4) (pTot N t (nn (N (zI t 1)))), 0, 0) ∧ ∀ w, w < 7 → yi (ysi h 22 5 (E t 4) (pTot N t (nn (N (zI t 1))))) 22 w (E t 4) = pPart N t w := by
  have H := kw_hd W ht
  have hl := H.led
  have h12 := (W.2.2.1.2.2.2.2.2.2.2.2.1 t ht).2.1
  constructor
  · unfold fX6_ledger
    have H' : kHd (ysi h 22 5 (E t 4) (pTot N t (nn (N (zI t 1))))) (E t) (P t) N t := H.hq (hq_5 (Z := fun _ => True) hl.1 trivial)
    rw [if_pos rfl, x_b1 (kh_6 H), x_b1 (kh_2 H), x_b1 (kh_total H h12), x_b1 (e_put hl.1 kn22_5), x_b1 (kh_6 H')]
    rfl
  · intro w hw
    obtain ⟨h1, h2, h3, h4, h5, h6, h7⟩ := hl
    rw [yi_si h1 kn22_5]
    unfold pPart
    rcases (show w = 0 ∨ w = 1 ∨ w = 2 ∨ w = 3 ∨ w = 4 ∨ w = 5 ∨ w = 6 by omega) with rfl | rfl | rfl | rfl | rfl | rfl | rfl
    · rw [if_neg (by omega), if_pos rfl]; exact h2
    · rw [if_neg (by omega), if_neg (by omega), if_pos rfl]; exact h3
    · rw [if_neg (by omega), if_neg (by omega), if_neg (by omega), if_pos rfl]; exact h4
    · rw [if_neg (by omega), if_neg (by omega), if_neg (by omega), if_neg (by omega), if_pos rfl]; exact h5
    · rw [if_neg (by omega), if_neg (by omega), if_neg (by omega), if_neg (by omega), if_neg (by omega), if_pos rfl]; exact h6
    · rw [if_pos ⟨rfl, rfl, rfl⟩]; simp
    · rw [if_neg (by omega)]; simpa using h7
theorem k_hLed (W : kW h x sd al ae pl E P FE N) (ht : t < nn (N 0)) (hb : xbd n h) (hc : kCa Γ h) (B : kBo h (P t) m e ps V N L t) (hz : Z (E t 4)) (z : Int32) : ∃ r h' dc ds, fX6_ledger (E t 0) z (N 1) Γ h n = some (.inl r, h', dc, ds) ∧ dc ≤ 1 ∧ ds ≤ 1 ∧ hq Z h h' ∧ xbd (n + dc) h' ∧ (¬ ((pFY N : Int) ≤ z.toInt ∧ z.toInt ≤ nn (N 1)) → r = none) ∧ (((pFY N : Int) ≤ z.toInt ∧ z.toInt ≤ nn (N 1)) → ∃ v, r = some v ∧ yO h' 22 v ∧ ∀ w, w < 7 → yi h' 22 w v = pLP L N t (z.toInt.toNat - pFY N) w) := by
  have H := kw_hd W ht
  have hl := H.led
  have n1 : N 1 = Int32.ofNat (nn (N 1)) := W.2.2.1.2.2.1
  have b1 := W.2.2.1.2.2.2.1
  have yk : pFY N + nn (N 2) = nn (N 1) := by unfold pFY; have := B.2.1; omega
  have z1 : (N 1).toInt = nn (N 1) := by rw [n1, i_toInt (by omega), nn_of (by omega)]
  by_cases c : z = N 1
  · subst c
    obtain ⟨e1, e2⟩ := k_hOpen (Γ := Γ) (n := n) W ht
    refine ⟨some (E t 4), _, 0, 0, e1, by omega, by omega, hq_5 hl.1 hz, ?_, fun q => absurd ⟨by omega, by omega⟩ q, fun _ => ⟨E t 4, rfl, (hq_5 (Z := Z) hl.1 hz).O (yO_of _ _ _ hl.1), fun w hw => ?_⟩⟩
    · intro a ha
      have : yhd (ysi h 22 5 (E t 4) (pTot N t (nn (N (zI t 1))))) a = yhd h a := yhd_sv _ _ _ _ _ _
      unfold yhd at this
      rw [hb a ha] at this
      simpa using this
    · rw [e2 w hw]
      unfold pLP
      rw [if_pos (by omega)]
  · have hP : yO h 20 (P t) := (W.2.2.2.2 t ht).1.1
    have g5 := e_gR (Γ := Γ) (n := n) hP kn20_5
    rw [B.1] at g5
    obtain ⟨ka, h1, dc, ds, v1, v2, v3, v4, v5, v6, v7⟩ := k_valueI (v := z) hc hb
    have B1 := B.mono hP v4
    have e3 := k_get (Γ := Γ) (n := n + dc) B1.2.2.1 v6 v7
    have nz : z.toInt ≠ nn (N 1) := fun q => c (Int32.toInt_inj.mp (by omega))
    unfold fX6_ledger
    rw [if_neg c, x_b1 (kh_0 H), x_b1 g5, x_bc v1, x_b1 e3]
    by_cases c2 : (pFY N : Int) ≤ z.toInt ∧ z.toInt < pFY N + nn (N 2)
    · have hj : (z.toInt - (pFY N : Int)).toNat < nn (N 2) := by omega
      have hV := B1.2.2.2 _ hj
      refine ⟨some (V (z.toInt - (pFY N : Int)).toNat), h1, dc, ds, ?_, v2, v3, v4.q, v5, fun q => absurd ⟨by omega, by omega⟩ q, fun _ => ⟨_, rfl, hV.1, fun w hw => ?_⟩⟩
      · rw [if_pos c2, x_b1 (k_cst hV.1 rfl)]
        rfl
      · rw [hV.2 w hw]
        unfold pLP
        rw [if_neg (by omega), show z.toInt.toNat - pFY N = (z.toInt - (pFY N : Int)).toNat by omega]
    · refine ⟨none, h1, dc, ds, ?_, v2, v3, v4.q, v5, fun _ => rfl, fun q => absurd (⟨q.1, by omega⟩ : (pFY N : Int) ≤ z.toInt ∧ z.toInt < pFY N + nn (N 2)) c2⟩
      rw [if_neg c2, x_b1 (show xcst (fun c => c == 22) none Γ h1 (n + dc) = some (.inl (), h1, 0, 0) from rfl)]
      rfl
end KLD
