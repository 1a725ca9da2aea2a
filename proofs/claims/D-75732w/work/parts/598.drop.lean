/-! part 598: a plan of the present state is dropped -/
section DR
variable {Γ : Nat → Option Nat} {g : xH} {n m mm x hi dep : Nat} {Dh P FE mx : Nat → Nat} {a D T B M : Nat → Nat → Nat} {E : Nat → Nat → Nat → Nat} {Nn : Nat → Nat → Int32}
def fRem (F : Nat → Nat) (k : Nat) : Nat → Nat := fun j => if j < k then F j else F (j + 1)
theorem kRec.drop {k : Nat} (R : kRec n m g x hi dep Dh a E P FE Nn mx D T B M) (hk : k < nn (Nn dep 3)) :
    ∃ g' D1 T1, xsel (some (a dep 0)) [(1, fun z => fX2_drop z (some (B dep k)))] Γ g mm = some (.inl (), g', 0, 0) ∧ kRec n m g' x hi dep Dh a E P FE (va_up Nn dep (pRem (Nn dep) k (nn (Nn dep 3)))) mx (va_up D dep D1) (va_up T dep T1) (va_up B dep (fRem (B dep) k)) (va_up M dep (fRem (M dep) k)) ∧ (∀ q, q ≠ a dep 3 → (∀ j, j < nn (Nn dep 3) → q ≠ D dep j) → g' q = g q) ∧ ∀ q, yhd g' q = yhd g q := by
  have F := R.now
  have ok := F.2.2.2.1
  have an := R.2.2.2.1
  have Dn := R.2.2.2.2.2.1
  have hb := R.2.2.2.2.2.2.2.2
  obtain ⟨cnt, hcnt⟩ : ∃ c, nn (Nn dep 3) = c + 1 := ⟨nn (Nn dep 3) - 1, by omega⟩
  obtain ⟨L, Pr, TI, TS⟩ := F.2.1
  rw [hcnt] at L Pr TI TS hk Dn
  obtain ⟨i0, hi0, eT0⟩ := (TS (B dep k)).mpr ⟨k, hk, rfl⟩
  have BI : qI (B dep) (cnt + 1) := fun i j hi' hj z => Pr.inj i j hi' hj z
  have oS := yO_of _ _ _ F.1.1
  have y38 : yO g 38 (T dep i0) := by rw [eT0]; exact (Pr.2.1 k hk).1.1
  obtain ⟨g3, d1, d2, d3, d4⟩ := k_drop2 (Γ := Γ) (m := mm) oS F.1.2.2.1 L TI hi0 y38
  have dl := d1 i0 0 xFU (by omega) (by have := Pr.1; unfold xFU; omega)
  rw [eT0] at dl
  have est : g3 (a dep 0) = g (a dep 0) := d4 _ (yO_ne oS (yO_of _ _ _ L.1) (by omega)) (fun j hj => yO_ne oS (yO_of _ _ _ (L.2.2.2.2.2.1 j hj).1) (by omega))
  have Pr3 : kPr g3 (Nn dep) (cnt + 1) (mx dep) (B dep) (M dep) := Pr.cg (fun q c hq hc => d4 q (yO_ne hq (yO_of _ _ _ L.1) (by omega)) (fun j hj => yO_ne hq (yO_of _ _ _ (L.2.2.2.2.2.1 j hj).1) (by omega)))
  have Ps3 := kPs.rem (g := g) d2 hcnt Pr3 TI TS BI hi0 hk eT0
  have e3 : nn (pRem (Nn dep) k (cnt + 1) 3) = cnt := by
    have := Pr.1
    unfold pRem
    rw [if_pos rfl, Nat.add_sub_cancel, nn_of (by omega)]
  have R' := R.plans (g' := g3) (m' := m) (N' := pRem (Nn dep) k (cnt + 1)) (mx' := mx dep) (D' := fun j => if j < i0 then D dep j else D dep (j + 1)) (T' := fun j => if j < i0 then T dep j else T dep (j + 1)) (B' := fRem (B dep) k) (M' := fRem (M dep) k) (Nat.le_refl _) (xbd_hd hb d3) (by
      rw [hcnt]
      exact fun q _ _ h3 h4 => d4 q h3 h4) (fun q _ => d3 q) (yr_c est) (yr_c est) (yi_c est) (yi_c est) (by rw [yi_c est]; exact F.2.2.1) Ps3 (by
      rw [e3, hcnt]
      intro j hj
      refine Or.inl ?_
      by_cases c0 : j < i0
      · exact ⟨j, by omega, by rw [if_pos c0]⟩
      · exact ⟨j + 1, by omega, by rw [if_neg c0]⟩) (okN.rem ok hcnt hk) (by
      intro j hj
      unfold pRem
      rw [if_neg (by omega), if_neg (by omega)]) (by
      intro j h1 h2
      have := Pr.1
      unfold pRem
      rw [if_neg (by omega), if_neg (by omega)])
  refine ⟨g3, (fun j => if j < i0 then D dep j else D dep (j + 1)), (fun j => if j < i0 then T dep j else T dep (j + 1)), ?_, ?_, by rw [hcnt]; exact d4, d3⟩
  · rw [e_sel oS]
    unfold fX2_drop
    rw [xlet_ap]
    exact dl
  · rw [hcnt]
    refine R'.cgE (fun _ _ => rfl) (fun _ _ => rfl) (fun i hi' => ?_) (fun _ _ => rfl) (fun _ _ => rfl) (fun _ _ => rfl) (fun _ _ => rfl)
    rw [va_ap]
    by_cases c : i = dep
    · rw [if_pos c, c]
    · rw [if_neg c]
end DR
