/-! part 600: a state's year is closed, up to the herds -/
theorem xu_all {h g : xH} (s : hsub h g) : xu h g = g := by
  funext q
  cases hc : h q with
  | none => exact xu_none hc
  | some c => rw [xu_some hc, s q (by rw [hc]; exact fun z => nomatch z), hc]
section SM
variable {Γ : Nat → Option Nat} {g : xH} {n m x hi dep : Nat} {Dh P FE mx : Nat → Nat} {a D T B M : Nat → Nat → Nat} {E : Nat → Nat → Nat → Nat} {Nn : Nat → Nat → Int32}
theorem k_close1 (hG : ∀ N, okN N → gTm N → 0 < nn (N 3) → gTm (pRem (pCarry N) 0 (nn (N 3)))) (R : kRec n m g x hi dep Dh a E P FE Nn mx D T B M) (gt : gTm (Nn dep)) :
    ∃ g' Nn' D' T' B' M', xsel (some (a dep 0)) [(1, fun z => fX2_close z)] Γ g m = xadd 4 21 (fX2_close_p81 (a dep 0) (pCloseR (Nn dep)) Γ g' (m + 4)) ∧ kRec n (m + 4) g' x hi dep Dh a E P FE Nn' mx D' T' B' M' ∧ Nn' dep = pCl1 (Nn dep) ∧ (∀ i, i ≠ dep → Nn' i = Nn i ∧ D' i = D i ∧ T' i = T i ∧ B' i = B i ∧ M' i = M i) ∧ (∀ q, q ≤ n → g q ≠ none → g' q = g q) ∧ gTm (Nn' dep) := by
  have F := R.now
  have oS := yO_of _ _ _ F.1.1
  have hb := R.2.2.2.2.2.2.2.2
  obtain ⟨H, mc, q, κ, q1, q2, q3, q4, q5, q6, q7⟩ := k_queue (Γ := Γ) oS F.1.2.2.1 F.2.1 hb
  have cu : H m = some (kQc (m + 2) (m + 1) (nn (Nn dep 3)) mc) := by
    rw [← q7]
    exact kq_at (by omega)
  have ca : H (m + 2) = some (true, .inl (5, 12, .inr (.inr (.inr (.inr (kF q (nn (Nn dep 3)))))))) := by
    rw [← q7]
    unfold kQu kQA
    exact up_self
  have e := xu_all q2
  obtain ⟨h0', U', Nn', D', T', B', M', r1, r2, r3, r4, r5, r6, r7⟩ := k_close7 (Γ := Γ) (mm := m + 4) (qu := m) (qa := m + 2) (cm := m + 1) (κ := κ) hG (by omega) (by omega) (by omega) ⟨by omega, by omega, by omega⟩ q6 (nn (Nn dep 3)) 0 xFU g H mc (Int32.ofNat 0) q Nn D T B M (by omega) (by have := F.2.1.2.1.1; unfold xFU; omega) rfl R F.2.1.2.1 (fun j hj => by rw [Nat.zero_add]) gt cu ca q4 q5
  rw [e] at r1 r7
  refine ⟨xu h0' U', Nn', D', T', B', M', ?_, r2.mono xu_sub (by omega) (r7 _ q3), r3, r4, fun z hz gz => ?_, r6⟩
  · rw [e_sel oS]
    unfold fX2_close
    rw [x_bc q1, q7, xlet_ap]
    exact congrArg (xadd 4 21) r1
  · have h0z : h0' z = g z := r5 z hz
    cases hc : g z with
    | none => exact absurd hc gz
    | some c => rw [xu_some (h0z.trans hc)]
end SM
