/-! part 591: plan, whole -/
section PM
variable {Γ : Nat → Option Nat} {h : xH} {n x hi dep s z : Nat} {Dh P FE mx : Nat → Nat} {a D T B M : Nat → Nat → Nat} {E : Nat → Nat → Nat → Nat} {Nn : Nat → Nat → Int32} {y k v : Int32}
/-- up to the check of the arguments -/
theorem k_plan35 (H : kHs h x hi dep Dh a E P FE Nn mx D T B M) (hs : s < nn (Nn dep 0)) (hz : z ≤ nn (Nn dep (zI s 1))) : (pRight (Nn dep) y k v → fX1_plan x y k (Int32.ofNat s) (Int32.ofNat z) v Γ h n = fX1_plan_p73 x y k (Int32.ofNat s) (Int32.ofNat z) v (Int32.ofNat 1) Γ h n) ∧ (¬ pRight (Nn dep) y k v → fX1_plan x y k (Int32.ofNat s) (Int32.ofNat z) v Γ h n = fX1_plan_p73 x y k (Int32.ofNat s) (Int32.ofNat z) v (Int32.ofNat 0) Γ h n) := by
  have W := H.w
  have ok := W.2.2.1
  have n1 := ok.2.2.1
  have l1 := ok.2.2.2.1
  unfold nN at n1
  have i0 : (0 : Int32) = Int32.ofNat 0 := rfl
  have i1 : (1 : Int32) = Int32.ofNat 1 := rfl
  have i2 : (2 : Int32) = Int32.ofNat 2 := rfl
  have ik : (1000 : Int32) = Int32.ofNat 1000 := rfl
  have im : (1000000 : Int32) = Int32.ofNat 1000000 := rfl
  have i9 : (9999 : Int32) = Int32.ofNat 9999 := rfl
  have gy := kw_year (Γ := Γ) (n := n) W
  rw [n1] at gy
  have num : ∀ b : Int32, fX1_plan x y k (Int32.ofNat s) (Int32.ofNat z) v Γ h n = fX1_plan_p35 x y k (Int32.ofNat s) (Int32.ofNat z) v (b2i (decide (if k = Int32.ofNat 2 then 0 ≤ v.toInt ∧ v.toInt ≤ 1000 else 1 ≤ v.toInt ∧ v.toInt ≤ 1000000))) Γ h n := by
    intro _
    unfold fX1_plan
    rw [x_b1 ((kw_x W).trans (k_herdWith1 W hs hz)), i2]
    by_cases c : k = Int32.ofNat 2
    · have e : (if k = Int32.ofNat 2 then 0 ≤ v.toInt ∧ v.toInt ≤ 1000 else 1 ≤ v.toInt ∧ v.toInt ≤ 1000000) ↔ (0 ≤ v.toInt ∧ v.toInt ≤ 1000) := by rw [if_pos c]
      rw [if_pos c, i0, ik]
      by_cases d : 0 ≤ v.toInt ∧ v.toInt ≤ 1000
      · rw [x_b1 (k_rng1 (lo := 0) (hi' := 1000) (by omega) (by omega) d), decide_eq_true (e.mpr d), b2i_t]
      · rw [x_b1 (k_rng0 (lo := 0) (hi' := 1000) (by omega) (by omega) d), decide_eq_false (fun q => d (e.mp q)), b2i_f]
    · have e : (if k = Int32.ofNat 2 then 0 ≤ v.toInt ∧ v.toInt ≤ 1000 else 1 ≤ v.toInt ∧ v.toInt ≤ 1000000) ↔ (1 ≤ v.toInt ∧ v.toInt ≤ 1000000) := by rw [if_neg c]
      rw [if_neg c, i1, im]
      by_cases d : 1 ≤ v.toInt ∧ v.toInt ≤ 1000000
      · rw [x_b1 (k_rng1 (lo := 1) (hi' := 1000000) (by omega) (by omega) d), decide_eq_true (e.mpr d), b2i_t]
      · rw [x_b1 (k_rng0 (lo := 1) (hi' := 1000000) (by omega) (by omega) d), decide_eq_false (fun q => d (e.mp q)), b2i_f]
  rw [num 0]
  unfold pRight fX1_plan_p35 fX1_plan_p72
  rw [x_b1 (kw_now W), x_b1 gy, i9, i0, i2, i1]
  by_cases c1 : (nn (Nn dep 1) : Int) ≤ y.toInt ∧ y.toInt ≤ 9999
  · rw [x_b1 (k_rng1 (hi' := 9999) (by omega) (by omega) c1), if_neg b2i_1]
    by_cases c2 : 0 ≤ k.toInt ∧ k.toInt ≤ 2
    · rw [x_b1 (k_rng1 (lo := 0) (hi' := 2) (by omega) (by omega) c2), if_neg b2i_1]
      by_cases c3 : (if k = Int32.ofNat 2 then 0 ≤ v.toInt ∧ v.toInt ≤ 1000 else 1 ≤ v.toInt ∧ v.toInt ≤ 1000000)
      · rw [decide_eq_true c3, b2i_t, if_neg b2i_1]
        exact ⟨fun _ => rfl, fun q => absurd ⟨c1, c2, c3⟩ q⟩
      · rw [decide_eq_false c3, b2i_f, if_pos rfl]
        exact ⟨fun q => absurd q.2.2 c3, fun _ => rfl⟩
    · rw [x_b1 (k_rng0 (lo := 0) (hi' := 2) (by omega) (by omega) c2), if_pos rfl]
      exact ⟨fun q => absurd q.2.1 c2, fun _ => rfl⟩
  · rw [x_b1 (k_rng0 (hi' := 9999) (by omega) (by omega) c1), if_pos rfl]
    exact ⟨fun q => absurd q.1 c1, fun _ => rfl⟩
theorem k_plan73 (H : kHs h x hi dep Dh a E P FE Nn mx D T B M) : fX1_plan_p73 x y k (Int32.ofNat s) (Int32.ofNat z) v (Int32.ofNat 1) Γ h n = fX1_plan_p96 x y k (Int32.ofNat s) (Int32.ofNat z) v (if 12 ≤ nn (Nn dep 3) then Int32.ofNat 0 else Int32.ofNat 1) Γ h n := by
  have W := H.w
  have F := H.2.2.2.2.2.1 dep (Nat.le_refl _)
  have L := F.2.1.1
  have c12 := F.2.1.2.1.1
  have i0 : (0 : Int32) = Int32.ofNat 0 := rfl
  have i1 : (1 : Int32) = Int32.ofNat 1 := rfl
  have i12 : (12 : Int32) = Int32.ofNat 12 := rfl
  have sz : xsel (some (a dep 3)) [(6, fun z => fJ19_size z)] Γ h n = some (.inl (Int32.ofNat (nn (Nn dep 3))), h, 0, 0) := by
    rw [e_sel (yO_of _ _ _ L.1)]
    unfold fJ19_size
    rw [x_b1 (k_llSize L)]
    rfl
  unfold fX1_plan_p73
  rw [x_b1 k_carg1, x_b1 (kw_now W), x_b1 (kw_pl W), x_b1 sz, i12, i0, i1]
  by_cases c : 12 ≤ nn (Nn dep 3)
  · rw [if_pos ((i_le (by omega) (by omega)).mpr c), if_pos c]
  · rw [if_neg (fun q => c ((i_le (by omega) (by omega)).mp q)), if_neg c]
theorem k_plan1 {R : Nat → Int32} (H : kHs h x hi dep Dh a E P FE Nn mx D T B M) (hb : xbd n h) (KC : kKc Γ h) (hs : s < nn (Nn dep 0)) (hz : z ≤ nn (Nn dep (zI s 1))) (hr : pRight (Nn dep) y k v) (h12 : nn (Nn dep 3) < 12) (hmx : mx dep < 999999) (r0 : R 0 = y) (rk : R 1 = k) (r2 : R 2 = Int32.ofNat s) (r3 : R 3 = Int32.ofNat z) (r4 : R 4 = v) :
    ∃ g dc ds, fX1_plan x y k (Int32.ofNat s) (Int32.ofNat z) v Γ h n = some (.inl (Int32.ofNat (pPos (Nn dep) R 0 (nn (Nn dep 3)))), g, dc, ds) ∧ dc ≤ 120 ∧ ds ≤ 1300 ∧ kMr h n x hi dep Dh a E P FE Nn mx D T B M (pIns (Nn dep) R (pPos (Nn dep) R 0 (nn (Nn dep 3))) (nn (Nn dep 3))) (mx dep + 1) g dc := by
  have hr' := hr
  obtain ⟨⟨y1, y2⟩, ⟨k1, k2⟩, -⟩ := hr'
  have ey : y = Int32.ofNat (nn y) := i_pos (by omega)
  have ek : k = Int32.ofNat (nn k) := i_pos (by omega)
  have ny := i_nn (p := y) (by omega)
  have nk := i_nn (p := k) (by omega)
  obtain ⟨g, dc, ds, q1, q2⟩ := k_plan96 (Γ := Γ) (y := nn y) (k := nn k) (v := v) (R := R) H hb KC (by omega) (by omega) hs hz h12 hmx (r0.trans ey) (rk.trans ek) r2 r3 r4
  rw [← ey, ← ek] at q1
  refine ⟨g, dc, ds, ?_, q2⟩
  rw [(k_plan35 H hs hz).1 hr, k_plan73 H, if_neg (by omega)]
  exact q1
theorem k_plan0 {p q : Int32} (H : kHs h x hi dep Dh a E P FE Nn mx D T B M) (hp : ¬ vA (Nn dep) p q) : fX1_plan x y k p q v Γ h n = some (.inr n, kNx h n 8, 1, 6) := by
  unfold fX1_plan
  rw [x_bx ((kw_x H.w).trans (k_herdWith0 H.w hp))]
theorem k_plan2 (H : kHs h x hi dep Dh a E P FE Nn mx D T B M) (hs : s < nn (Nn dep 0)) (hz : z ≤ nn (Nn dep (zI s 1))) (hr : ¬ pRight (Nn dep) y k v) : fX1_plan x y k (Int32.ofNat s) (Int32.ofNat z) v Γ h n = some (.inr n, kNx h n 3, 1, 6) := by
  rw [(k_plan35 H hs hz).2 hr]
  unfold fX1_plan_p73
  rw [x_bx k_carg0]
theorem k_plan3 (H : kHs h x hi dep Dh a E P FE Nn mx D T B M) (hs : s < nn (Nn dep 0)) (hz : z ≤ nn (Nn dep (zI s 1))) (hr : pRight (Nn dep) y k v) (h12 : nn (Nn dep 3) = 12) : fX1_plan x y k (Int32.ofNat s) (Int32.ofNat z) v Γ h n = some (.inr n, kNx h n 35, 1, 6) := by
  rw [(k_plan35 H hs hz).1 hr, k_plan73 H, if_pos (by omega)]
  unfold fX1_plan_p96
  rw [x_bx k_cst0]
end PM
