/-! part 588: a plan is cancelled -/
section CA
variable {Γ : Nat → Option Nat} {h g : xH} {n x hi dep : Nat} {Dh P FE mx : Nat → Nat} {a D T B M : Nat → Nat → Nat} {E : Nat → Nat → Nat → Nat} {Nn : Nat → Nat → Int32}
theorem kHs.mono (H : kHs h x hi dep Dh a E P FE Nn mx D T B M) (s : hsub h g) : kHs g x hi dep Dh a E P FE Nn mx D T B M := by
  obtain ⟨h1, h2, h3, h4, h5, h6, h7⟩ := H
  have e := s _ (yO_at (yO_of _ _ _ h1))
  exact ⟨(yW_c e).mpr h1, (yr_c e).trans h2, (yr_c e).trans h3, h4, h5.mono s, fun i hi' => (h6 i hi').mono s, h7⟩
theorem k_cancel1 {k : Nat} (H : kHs h x hi dep Dh a E P FE Nn mx D T B M) (hb : xbd n h) (hk : k < nn (Nn dep 3)) :
    ∃ g dc ds, fX1_cancel x (Int32.ofNat k) Γ h n = some (.inl (Int32.ofNat (nn (Nn dep 3) - 1)), g, dc, ds) ∧ dc ≤ 65 ∧ ds ≤ 931 ∧ kMr h n x hi dep Dh a E P FE Nn mx D T B M (pRem (Nn dep) k (nn (Nn dep 3))) (mx dep) g dc := by
  have W := H.w
  obtain ⟨g1, p1, p2, p3⟩ := H.pa (Γ := Γ) (p := Int32.ofNat k) hb
  have F0 := H.2.2.2.2.2.1 dep (Nat.le_refl _)
  have c12 := F0.2.1.2.1.1
  have ek : kPA (B dep) (nn (Nn dep 3)) (Int32.ofNat k) = some (B dep k) := by
    unfold kPA
    rw [i_toInt (by omega), if_pos (by omega)]
    rfl
  rw [ek] at p1
  have H1 := H.mono p2
  obtain ⟨g2, Dh', E', D', T', dc, ds, r1, r2, r3, R, r5, r6, r7, r8⟩ := k_rec (Γ := Γ) H1 p3
  have e0 : shF dep Nn (Nn dep) (dep + 1 - shD dep) = Nn dep := shF_eq
  have eD : shF dep D D' (dep + 1 - shD dep) = D' := shF_eq
  have eT : shF dep T T' (dep + 1 - shD dep) = T' := shF_eq
  have eB : shF dep B (B dep) (dep + 1 - shD dep) = B dep := shF_eq
  have eM : shF dep M (M dep) (dep + 1 - shD dep) = M dep := shF_eq
  have ex : shF dep mx (mx dep) (dep + 1 - shD dep) = mx dep := shF_eq
  have F := R.now
  have ok := F.2.2.2.1
  have an := R.2.2.2.1
  have hb2 := R.2.2.2.2.2.2.2.2
  rw [e0] at ok
  obtain ⟨cnt, hcnt⟩ : ∃ c, nn (Nn dep 3) = c + 1 := ⟨nn (Nn dep 3) - 1, by omega⟩
  have Ps := F.2.1
  rw [e0, eD, eT, eB, eM, ex, an 3] at Ps
  obtain ⟨L, Pr, TI, TS⟩ := Ps
  rw [hcnt] at L Pr TI TS hk
  obtain ⟨i0, hi0, eT0⟩ := (TS (B dep k)).mpr ⟨k, hk, rfl⟩
  have BI : qI (B dep) (cnt + 1) := fun i j hi' hj z => Pr.inj i j hi' hj z
  have S1 := F.1
  have oS : yO g2 1 (n + 4 + 1) := by
    have := yO_of _ _ _ S1.1
    rw [an 0] at this
    exact this
  have gpl : yr g2 1 1 (n + 4 + 1) = some (n + 4 + 1 + 3) := by
    have := S1.2.2.1
    rw [an 0, an 3] at this
    exact this
  obtain ⟨g3, d1, d2, d3, d4⟩ := k_drop2 (Γ := Γ) (m := n + 4 + dc) oS gpl L TI hi0 (by rw [eT0]; exact (Pr.2.1 k hk).1.1)
  have dl := d1 i0 0 xFU (by omega) (by have := Pr.1; unfold xFU; omega)
  rw [eT0] at dl
  have Dn : ∀ j, j < cnt + 1 → n + 4 + 5 ≤ D' j := fun j hj => by
    have := R.2.2.2.2.2.1 j (by rw [e0, hcnt]; exact hj)
    rw [eD] at this
    exact this
  have est : g3 (n + 4 + 1) = g2 (n + 4 + 1) := d4 _ (by omega) (fun j hj => by have := Dn j hj; omega)
  have Pr3 : kPr g3 (Nn dep) (cnt + 1) (mx dep) (B dep) (M dep) := Pr.cg (fun q c hq hc => d4 q (yO_ne hq (yO_of _ _ _ L.1) (by omega)) (fun j hj => yO_ne hq (yO_of _ _ _ (L.2.2.2.2.2.1 j hj).1) (by omega)))
  have Ps3 := kPs.rem (g := g2) d2 hcnt Pr3 TI TS BI hi0 hk eT0
  have e3 : nn (pRem (Nn dep) k (cnt + 1) 3) = cnt := by
    unfold pRem
    rw [if_pos rfl, Nat.add_sub_cancel, nn_of (by omega)]
  have R' := R.plans (g' := g3) (m' := n + 4 + dc) (N' := pRem (Nn dep) k (cnt + 1)) (mx' := mx dep) (D' := fun j => if j < i0 then D' j else D' (j + 1)) (T' := fun j => if j < i0 then T' j else T' (j + 1)) (B' := fun j => if j < k then B dep j else B dep (j + 1)) (M' := fun j => if j < k then M dep j else M dep (j + 1)) (Nat.le_refl _) (xbd_hd hb2 d3) (by
      rw [an 3, eD, e0, hcnt]
      exact fun q _ _ h3 h4 => d4 q h3 h4) (fun q _ => d3 q) (by rw [an 0]; exact yr_c est) (by rw [an 0]; exact yr_c est) (by rw [an 0]; exact yi_c est) (by rw [an 0]; exact yi_c est) (by
      have := F.2.2.1
      rw [an 0, ex] at this
      rw [an 0, yi_c est]; exact this) (by rw [an 3]; exact Ps3) (by
      rw [e3, eD, e0, hcnt]
      intro j hj
      refine Or.inl ?_
      by_cases c0 : j < i0
      · exact ⟨j, by omega, by rw [if_pos c0]⟩
      · exact ⟨j + 1, by omega, by rw [if_neg c0]⟩) (okN.rem ok hcnt hk) (by
      rw [e0]
      intro j hj
      unfold pRem
      rw [if_neg (by omega), if_neg (by omega)]) (by
      rw [e0]
      intro j h1 h2
      have := Pr.1
      unfold pRem
      rw [if_neg (by omega), if_neg (by omega)])
  have hx := R.2.1.1
  have o1 : ∀ q, h q ≠ none → g1 q ≠ none := fun q hq => by rw [p2 q hq]; exact hq
  refine ⟨g3, 4 + dc, 21 + ds, ?_, by omega, by omega, n + 4, Dh', E', (fun j => if j < i0 then D' j else D' (j + 1)), (fun j => if j < i0 then T' j else T' (j + 1)), (fun j => if j < k then B dep j else B dep (j + 1)), (fun j => if j < k then M dep j else M dep (j + 1)), by omega, ?_, fun k' hk' => ?_, fun k' => ?_, fun q hq a1 a2 a3 => ?_⟩
  · have i1 : (1 : Int32) = Int32.ofNat 1 := rfl
    have dr : xsel (some (n + 4 + 1)) [(1, fun z => fX2_drop z (some (B dep k)))] Γ g2 (n + 4 + dc) = some (.inl (), g3, 0, 0) := by
      rw [e_sel oS]
      unfold fX2_drop
      rw [xlet_ap]
      exact dl
    have oS3 : yO g3 1 (n + 4 + 1) := (yO_c est).mpr oS
    have gp := e_gR (Γ := Γ) (n := n + 4 + dc) oS3 kn1_1
    rw [yr_c est, gpl] at gp
    have sz : xsel (some (n + 4 + 1 + 3)) [(6, fun z => fJ19_size z)] Γ g3 (n + 4 + dc) = some (.inl (Int32.ofNat cnt), g3, 0, 0) := by
      rw [e_sel (yO_of _ _ _ d2.1)]
      unfold fJ19_size
      rw [x_b1 (k_llSize d2)]
      rfl
    unfold fX1_cancel
    rw [x_b1 (kw_now W), x_bc p1, if_neg (fun z => nomatch z)]
    unfold fX1_cancel_p18
    rw [i1, x_b1 k_thr1, x_bc r1, x_b1 dr, x_b1 gp, x_b1 sz, hcnt, Nat.add_sub_cancel]
    rfl
  · rw [hcnt, ← Nat.add_assoc]
    exact R'.cgE (fun _ _ => rfl) (fun i hi' => shF_up hi') (fun i hi' => shF_up hi') (fun i hi' => shF_up hi') (fun i hi' => shF_up hi') (fun i hi' => shF_up hi') (fun i hi' => shF_up hi')
  · have ec : g3 x = g2 x := d4 x (by omega) (fun j hj => by have := Dn j hj; omega)
    rw [yr_c ec, r5 k' hk', yr_c (p2 _ (yO_at (yO_of _ _ _ H.1)))]
  · have ec : g3 x = g2 x := d4 x (by omega) (fun j hj => by have := Dn j hj; omega)
    rw [yi_c ec, r6 k', yi_c (p2 _ (yO_at (yO_of _ _ _ H.1)))]
  · have ql := xbd_lt hb hq
    rw [d4 q (by omega) (fun j hj => by have := Dn j hj; omega), r7 q (o1 q hq) a1 a2 a3, p2 q hq]
/-- a throw behind new cells -/
theorem k_cancel0 {p : Int32} (H : kHs h x hi dep Dh a E P FE Nn mx D T B M) (hb : xbd n h) (hp : ¬ (0 ≤ p.toInt ∧ p.toInt < nn (Nn dep 3))) : ∃ g, fX1_cancel x p Γ h n = some (.inr (n + 4), kNx g (n + 4) 10, 5, 27) ∧ hsub h g ∧ xbd (n + 4) g := by
  have W := H.w
  have i0 : (0 : Int32) = Int32.ofNat 0 := rfl
  obtain ⟨g, e1, e2, e3⟩ := H.pa (Γ := Γ) (p := p) hb
  have ek : kPA (B dep) (nn (Nn dep 3)) p = none := by
    unfold kPA
    rw [if_neg hp]
  rw [ek] at e1
  refine ⟨g, ?_, e2, e3⟩
  unfold fX1_cancel
  rw [x_b1 (kw_now W), x_bc e1, if_pos rfl]
  unfold fX1_cancel_p18
  rw [i0, x_bx k_thr0]
  rfl
end CA
