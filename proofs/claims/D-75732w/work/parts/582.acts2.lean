/-! part 582: taking, adding, illness -/
section AD
variable {Γ : Nat → Option Nat} {h : xH} {n x hi dep t : Nat} {Dh P FE mx : Nat → Nat} {a D T B M : Nat → Nat → Nat} {E : Nat → Nat → Nat → Nat} {Nn : Nat → Nat → Int32} {v : Int32}
theorem pLose_c {N : Nat → Int32} {s o w : Nat} {b : Int32} (hw : w ≠ 4) : pLose N s o b (zI s w) = N (zI s w) := by
  unfold pLose
  split
  · rfl
  · rw [va_ap, if_neg (zI_ne hw)]
theorem k_take1 {j : Nat} (H : kHs h x hi dep Dh a E P FE Nn mx D T B M) (hb : xbd n h) (ht : t < nn (Nn dep 0)) (hj : j ≤ nn (Nn dep (zI t 1))) (hv : ¬ v < Int32.ofNat 1) (c1 : ¬ Nn dep (zI t (39 + j)) < v) (c2 : ¬ imax (Int32.ofNat 0) (Nn dep (zI t 5) - Nn dep (zI t 10)) < v) (hb0 : 0 ≤ (pTot (Nn dep) t (nn (Nn dep (zI t 1)))).toInt) (hm : pTot (Nn dep) t (nn (Nn dep (zI t 1))) = 0 → Nn dep (zI t 4) = 0) :
    ∃ g dc ds, fX1_take x (Int32.ofNat t) (Int32.ofNat j) v Γ h n = some (.inl (imax (Int32.ofNat 0) (pTake (Nn dep) t (nn (Nn dep (zI t 1))) j v (zI t 5) - pTake (Nn dep) t (nn (Nn dep (zI t 1))) j v (zI t 10))), g, dc, ds) ∧ dc ≤ 61 ∧ ds ≤ 910 ∧ kMr h n x hi dep Dh a E P FE Nn mx D T B M (pTake (Nn dep) t (nn (Nn dep (zI t 1))) j v) (mx dep) g dc := by
  have W := H.w
  have h12 := (kw_12 W ht).1
  have i1 : (1 : Int32) = Int32.ofNat 1 := rfl
  obtain ⟨g, Y, q, dc, ds, r1, r2, r3, d, A, r4⟩ := k_changed (Γ := Γ) H hb ht
  have C : chg (Nn dep) (pTake (Nn dep) t (nn (Nn dep (zI t 1))) j v) t := chg.take (by omega)
  have A' := hA_take (j := j) (v := v) A h12 (kw_z W ht) hj hb0 hm
  have K := kw_hd W ht
  refine ⟨hV g Y (P t) (qTake q j v), dc, ds, ?_, r2, r3, r4 _ _ A' (fun i hi' hn => ?_) C.n1 C.n2 (C.og H.og)⟩
  · unfold fX1_take
    rw [x_b1 ((kw_x W).trans (k_herdWith1 W ht hj)), i1, if_neg hv]
    unfold fX1_take_p18
    rw [x_b1 k_carg1, x_b1 ((kh_sel K).trans (kh_cohort K (by omega))), if_neg c1, x_b1 ((kh_sel K).trans (kh_left K)), if_neg c2]
    unfold fX1_take_p45
    rw [i1, x_b1 k_cst1, x_bc r1, x_b1 (hv_take d (by omega)), x_b1 (hv_left d), A'.2.2.2.2.2.2.2.2.2.2, A'.2.2.2.2.2.2.2.2.1]
    rfl
  · rw [C.ne (by unfold wM; omega)] at hn
    unfold pTake
    rw [pLose_c (by omega), pTake0_ne (by omega) (by omega)]
    exact kw_z W ht i hi' hn
theorem k_take0 {p q : Int32} (H : kHs h x hi dep Dh a E P FE Nn mx D T B M) (hp : ¬ vA (Nn dep) p q) : fX1_take x p q v Γ h n = some (.inr n, kNx h n 8, 1, 6) := by
  unfold fX1_take
  rw [x_bx ((kw_x H.w).trans (k_herdWith0 H.w hp))]
theorem k_take2 {j : Nat} (H : kHs h x hi dep Dh a E P FE Nn mx D T B M) (ht : t < nn (Nn dep 0)) (hj : j ≤ nn (Nn dep (zI t 1))) (hv : v < Int32.ofNat 1) : fX1_take x (Int32.ofNat t) (Int32.ofNat j) v Γ h n = some (.inr n, kNx h n 3, 1, 6) := by
  have W := H.w
  have i1 : (1 : Int32) = Int32.ofNat 1 := rfl
  have i0 : (0 : Int32) = Int32.ofNat 0 := rfl
  unfold fX1_take
  rw [x_b1 ((kw_x W).trans (k_herdWith1 W ht hj)), i1, if_pos hv]
  unfold fX1_take_p18
  rw [i0, x_bx k_carg0]
theorem k_take3 {j : Nat} (H : kHs h x hi dep Dh a E P FE Nn mx D T B M) (ht : t < nn (Nn dep 0)) (hj : j ≤ nn (Nn dep (zI t 1))) (hv : ¬ v < Int32.ofNat 1) (c : Nn dep (zI t (39 + j)) < v ∨ imax (Int32.ofNat 0) (Nn dep (zI t 5) - Nn dep (zI t 10)) < v) : fX1_take x (Int32.ofNat t) (Int32.ofNat j) v Γ h n = some (.inr n, kNx h n 35, 1, 6) := by
  have W := H.w
  have h12 := (kw_12 W ht).1
  have K := kw_hd W ht
  have i1 : (1 : Int32) = Int32.ofNat 1 := rfl
  have i0 : (0 : Int32) = Int32.ofNat 0 := rfl
  have fin : fX1_take_p44 x (Int32.ofNat t) (Int32.ofNat j) v Γ h n = some (.inr n, kNx h n 35, 1, 6) := by
    unfold fX1_take_p44 fX1_take_p45
    rw [i0, x_bx k_cst0]
  unfold fX1_take
  rw [x_b1 ((kw_x W).trans (k_herdWith1 W ht hj)), i1, if_neg hv]
  unfold fX1_take_p18
  rw [x_b1 k_carg1, x_b1 ((kh_sel K).trans (kh_cohort K (by omega)))]
  by_cases c1 : Nn dep (zI t (39 + j)) < v
  · rw [if_pos c1, fin]
  · rw [if_neg c1, x_b1 ((kh_sel K).trans (kh_left K)), if_pos (c.resolve_left c1), fin]
/-! adding -/
theorem k_add1 {j : Nat} (H : kHs h x hi dep Dh a E P FE Nn mx D T B M) (hb : xbd n h) (ht : t < nn (Nn dep 0)) (hj : j ≤ nn (Nn dep (zI t 1))) (hv : ¬ v < Int32.ofNat 1) (c1 : ¬ Int32.ofNat 1000000 - Nn dep (zI t (39 + j)) < v) :
    ∃ g dc ds, fX1_add x (Int32.ofNat t) (Int32.ofNat j) v Γ h n = some (.inl (pTot (pAdds (Nn dep) t j v) t (nn (Nn dep (zI t 1)))), g, dc, ds) ∧ dc ≤ 61 ∧ ds ≤ 910 ∧ kMr h n x hi dep Dh a E P FE Nn mx D T B M (pAdds (Nn dep) t j v) (mx dep) g dc := by
  have W := H.w
  have h12 := (kw_12 W ht).1
  have i1 : (1 : Int32) = Int32.ofNat 1 := rfl
  have im : (1000000 : Int32) = Int32.ofNat 1000000 := rfl
  obtain ⟨g, Y, q, dc, ds, r1, r2, r3, d, A, r4⟩ := k_changed (Γ := Γ) H hb ht
  have C : chg (Nn dep) (pAdds (Nn dep) t j v) t := chg.adds (by omega)
  have A' := hA_add (j := j) (v := v) A h12 (by omega)
  have K := kw_hd W ht
  have e1 : pAdds (Nn dep) t j v (zI t 1) = Nn dep (zI t 1) := C.ne (by unfold wM; omega)
  have z' : ∀ i, i < 13 → nn (pAdds (Nn dep) t j v (zI t 1)) < i → pAdds (Nn dep) t j v (zI t (39 + i)) = Int32.ofNat 0 := fun i hi' hn => by
    rw [e1] at hn
    unfold pAdds
    rw [va_ap, if_neg (zI_ne (by omega)), va_ap, if_neg (zI_ne (by omega))]
    exact kw_z W ht i hi' hn
  have T' := hA_tot A' (by rw [e1]; exact h12) z'
  rw [e1] at T'
  refine ⟨hV g Y (P t) (qAdd q j v), dc, ds, ?_, r2, r3, r4 _ _ A' z' C.n1 C.n2 (C.og H.og)⟩
  unfold fX1_add
  rw [x_b1 ((kw_x W).trans (k_herdWith1 W ht hj)), i1, if_neg hv]
  unfold fX1_add_p18
  rw [x_b1 k_carg1, x_b1 ((kh_sel K).trans (kh_cohort K (by omega))), im, if_neg c1]
  unfold fX1_add_p40
  rw [i1, x_b1 k_cst1, x_bc r1, x_b1 (hv_add d (by omega)), x_b1 (hv_g2 d), x_b1 (hv_tot d), T']
  rfl
theorem k_add0 {p q : Int32} (H : kHs h x hi dep Dh a E P FE Nn mx D T B M) (hp : ¬ vA (Nn dep) p q) : fX1_add x p q v Γ h n = some (.inr n, kNx h n 8, 1, 6) := by
  unfold fX1_add
  rw [x_bx ((kw_x H.w).trans (k_herdWith0 H.w hp))]
theorem k_add2 {j : Nat} (H : kHs h x hi dep Dh a E P FE Nn mx D T B M) (ht : t < nn (Nn dep 0)) (hj : j ≤ nn (Nn dep (zI t 1))) (hv : v < Int32.ofNat 1) : fX1_add x (Int32.ofNat t) (Int32.ofNat j) v Γ h n = some (.inr n, kNx h n 3, 1, 6) := by
  have W := H.w
  have i1 : (1 : Int32) = Int32.ofNat 1 := rfl
  have i0 : (0 : Int32) = Int32.ofNat 0 := rfl
  unfold fX1_add
  rw [x_b1 ((kw_x W).trans (k_herdWith1 W ht hj)), i1, if_pos hv]
  unfold fX1_add_p18
  rw [i0, x_bx k_carg0]
theorem k_add3 {j : Nat} (H : kHs h x hi dep Dh a E P FE Nn mx D T B M) (ht : t < nn (Nn dep 0)) (hj : j ≤ nn (Nn dep (zI t 1))) (hv : ¬ v < Int32.ofNat 1) (c1 : Int32.ofNat 1000000 - Nn dep (zI t (39 + j)) < v) : fX1_add x (Int32.ofNat t) (Int32.ofNat j) v Γ h n = some (.inr n, kNx h n 35, 1, 6) := by
  have W := H.w
  have h12 := (kw_12 W ht).1
  have K := kw_hd W ht
  have i1 : (1 : Int32) = Int32.ofNat 1 := rfl
  have i0 : (0 : Int32) = Int32.ofNat 0 := rfl
  have im : (1000000 : Int32) = Int32.ofNat 1000000 := rfl
  unfold fX1_add
  rw [x_b1 ((kw_x W).trans (k_herdWith1 W ht hj)), i1, if_neg hv]
  unfold fX1_add_p18
  rw [x_b1 k_carg1, x_b1 ((kh_sel K).trans (kh_cohort K (by omega))), im, if_pos c1]
  unfold fX1_add_p40
  rw [i0, x_bx k_cst0]
/-! illness -/
theorem k_sick1 {j y : Nat} (H : kHs h x hi dep Dh a E P FE Nn mx D T B M) (hb : xbd n h) (ht : t < nn (Nn dep 0)) (hj : j ≤ y) (hy : y ≤ nn (Nn dep (zI t 1))) (hv : 0 ≤ v.toInt ∧ v.toInt ≤ 1000) (hb0 : 0 ≤ (pTot (Nn dep) t (nn (Nn dep (zI t 1)))).toInt) (hm : pTot (Nn dep) t (nn (Nn dep (zI t 1))) = 0 → Nn dep (zI t 4) = 0) :
    ∃ g dc ds, fX1_sick x (Int32.ofNat t) (Int32.ofNat j) (Int32.ofNat y) v Γ h n = some (.inl (pSickens (Nn dep) t (nn (Nn dep (zI t 1))) j (y + 1 - j) v).2, g, dc, ds) ∧ dc ≤ 61 ∧ ds ≤ 910 ∧ kMr h n x hi dep Dh a E P FE Nn mx D T B M (pSickens (Nn dep) t (nn (Nn dep (zI t 1))) j (y + 1 - j) v).1 (mx dep) g dc := by
  have W := H.w
  have h12 := (kw_12 W ht).1
  have e12 := (kw_12 W ht).2.1
  have i0 : (0 : Int32) = Int32.ofNat 0 := rfl
  have i1 : (1 : Int32) = Int32.ofNat 1 := rfl
  have i9 : (1000 : Int32) = Int32.ofNat 1000 := rfl
  obtain ⟨g, Y, q, dc, ds, r1, r2, r3, d, A, r4⟩ := k_changed (Γ := Γ) H hb ht
  have C : chg (Nn dep) (pSickens (Nn dep) t (nn (Nn dep (zI t 1))) j (y + 1 - j) v).1 t := chg.sick (by omega)
  obtain ⟨A', e2⟩ := hA_sick (x := j) (k := y + 1 - j) v A h12 (kw_z W ht) (by omega) hb0 hm
  have K := kw_hd W ht
  have Sp := kw_sp W ht
  refine ⟨hV g Y (P t) (qSk1 v (isum q.f3 0 13) j (y + 1 - j) q (Int32.ofNat 0)), dc, ds, ?_, r2, r3, r4 _ _ A' (fun i hi' hn => ?_) C.n1 C.n2 (C.og H.og)⟩
  · have iy := i_toInt (a := y) (by omega)
    unfold fX1_sick
    rw [x_b1 ((kw_x W).trans (k_herdWith1 W ht (show j ≤ nn (Nn dep (zI t 1)) by omega))), x_b1 (kh_0 K), x_b1 (kp_1 Sp.1), x_b1 (k_rng1 (by omega) (by omega) (by omega)), if_neg (by decide), i0, i9, x_b1 (k_rng1 (lo := 0) (hi' := 1000) (by omega) (by omega) hv), if_neg (by decide)]
    unfold fX1_sick_p41
    rw [i1, x_b1 k_carg1, x_bc r1, x_b1 (hv_sick d hj (by omega) v), e2]
    rfl
  · rw [C.ne (by unfold wM; omega)] at hn
    unfold pSickens
    dsimp only
    rw [pLose_c (by omega), va_ap, if_neg (zI_ne (by omega)), pSick_ne t v _ _ _ _ _ (by unfold zI; omega)]
    exact kw_z W ht i hi' hn
theorem k_sick0 {p q w : Int32} (H : kHs h x hi dep Dh a E P FE Nn mx D T B M) (hp : ¬ vA (Nn dep) p q) : fX1_sick x p q w v Γ h n = some (.inr n, kNx h n 8, 1, 6) := by
  unfold fX1_sick
  rw [x_bx ((kw_x H.w).trans (k_herdWith0 H.w hp))]
theorem k_sick2 {j : Nat} {w : Int32} (H : kHs h x hi dep Dh a E P FE Nn mx D T B M) (ht : t < nn (Nn dep 0)) (hj : j ≤ nn (Nn dep (zI t 1))) (hc : ¬ (((j : Int) ≤ w.toInt ∧ w.toInt ≤ nn (Nn dep (zI t 1))) ∧ 0 ≤ v.toInt ∧ v.toInt ≤ 1000)) : fX1_sick x (Int32.ofNat t) (Int32.ofNat j) w v Γ h n = some (.inr n, kNx h n 3, 1, 6) := by
  have W := H.w
  have h12 := (kw_12 W ht).1
  have K := kw_hd W ht
  have Sp := kw_sp W ht
  have i0 : (0 : Int32) = Int32.ofNat 0 := rfl
  have i9 : (1000 : Int32) = Int32.ofNat 1000 := rfl
  have fin : fX1_sick_p40 x (Int32.ofNat t) (Int32.ofNat j) w v Γ h n = some (.inr n, kNx h n 3, 1, 6) := by
    unfold fX1_sick_p40 fX1_sick_p41
    rw [i0, x_bx k_carg0]
  unfold fX1_sick
  rw [x_b1 ((kw_x W).trans (k_herdWith1 W ht hj)), x_b1 (kh_0 K), x_b1 (kp_1 Sp.1)]
  by_cases c1 : (j : Int) ≤ w.toInt ∧ w.toInt ≤ nn (Nn dep (zI t 1))
  · rw [x_b1 (k_rng1 (by omega) (by omega) c1), if_neg (by decide), i0, i9, x_b1 (k_rng0 (lo := 0) (hi' := 1000) (by omega) (by omega) (fun z => hc ⟨c1, z⟩)), if_pos (by decide)]
    exact fin
  · rw [x_b1 (k_rng0 (by omega) (by omega) c1), if_pos (by decide), fin]
end AD
