/-! part 586: survey, planned -/
section SW
variable {Γ : Nat → Option Nat} {h : xH} {n x hi dep t : Nat} {Dh P FE mx : Nat → Nat} {a D T B M : Nat → Nat → Nat} {E : Nat → Nat → Nat → Nat} {Nn : Nat → Nat → Int32} {v r : Int32}
theorem i_r1 (hr : 0 ≤ r.toInt) : ¬ r.toInt64 + (1 : Int64) = 0 := by
  rw [← Int64.toInt_inj, Int64.toInt_add, Int32.toInt_toInt64]
  have hr2 : r.toInt < 2147483648 := Int32.toInt_lt r
  have : ((1 : Int64)).toInt = 1 := by decide
  rw [this, Int.bmod_eq_of_le (by omega) (by omega)]
  show ¬ (r.toInt + 1 = 0)
  omega
theorem k_survey1 (H : kHs h x hi dep Dh a E P FE Nn mx D T B M) (hb : xbd n h) (ht : t < nn (Nn dep 0)) (hv : pSvOk (Nn dep) t v r) :
    ∃ g dc ds, fX1_survey x (Int32.ofNat t) v r Γ h n = some (.inl (pEst (pSurvey (Nn dep) t (Nn dep (zI t 4)) v r) t 0), g, dc, ds) ∧ dc ≤ 63 ∧ ds ≤ 950 ∧ kMr h n x hi dep Dh a E P FE Nn mx D T B M (pSurvey (Nn dep) t (Nn dep (zI t 4)) v r) (mx dep) g dc := by
  have W := H.w
  have h12 := (kw_12 W ht).1
  have K := kw_hd W ht
  obtain ⟨⟨c1, c2⟩, c3⟩ := hv
  have z1 : (1 : Int32).toInt = 1 := by decide
  have z0 : (0 : Int32).toInt = 0 := by decide
  obtain ⟨g, dc, ds, r1, r2, r3, r4⟩ := k_survey63 (Γ := Γ) (v := v) (r := r) H hb ht (i_r1 c2.1)
  refine ⟨g, dc, ds, ?_, r2, r3, r4⟩
  unfold fX1_survey
  rw [x_b1 ((kw_x W).trans (k_herd1 W ht)), x_b1 (kh_2 K), x_b1 (kh_total K h12), x_b1 (k_inRange _ _ _), decide_eq_true ⟨Int32.le_iff_toInt_le.mpr (by rw [z1]; exact c1.1), Int32.le_iff_toInt_le.mpr c1.2⟩, b2i_t, if_neg (by decide), x_b1 (kh_4 K), x_b1 (i_im _ _ _ _ _), x_b1 (k_inRange _ _ _), decide_eq_true ⟨Int32.le_iff_toInt_le.mpr (by rw [z0]; exact c2.1), Int32.le_iff_toInt_le.mpr c2.2⟩, b2i_t, if_neg (by decide), x_b1 (kh_4 K), if_neg c3]
  exact r1
theorem k_survey0 {p : Int32} (H : kHs h x hi dep Dh a E P FE Nn mx D T B M) (hp : ¬ vS (Nn dep) p) : fX1_survey x p v r Γ h n = some (.inr n, kNx h n 8, 1, 6) := by
  unfold fX1_survey
  rw [x_bx ((kw_x H.w).trans (k_herd0 H.w hp))]
theorem k_survey2 (H : kHs h x hi dep Dh a E P FE Nn mx D T B M) (ht : t < nn (Nn dep 0)) (hv : ¬ pSvOk (Nn dep) t v r) : fX1_survey x (Int32.ofNat t) v r Γ h n = some (.inr n, kNx h n 3, 1, 6) := by
  have W := H.w
  have h12 := (kw_12 W ht).1
  have K := kw_hd W ht
  have z1 : (1 : Int32).toInt = 1 := by decide
  have z0 : (0 : Int32).toInt = 0 := by decide
  have i0 : (0 : Int32) = Int32.ofNat 0 := rfl
  have fin : fX1_survey_p62 x (Int32.ofNat t) v r Γ h n = some (.inr n, kNx h n 3, 1, 6) := by
    unfold fX1_survey_p62 fX1_survey_p63
    rw [i0, x_bx k_carg0]
  unfold fX1_survey
  rw [x_b1 ((kw_x W).trans (k_herd1 W ht)), x_b1 (kh_2 K), x_b1 (kh_total K h12), x_b1 (k_inRange _ _ _)]
  by_cases c1 : 1 ≤ v.toInt ∧ v.toInt ≤ (pTot (Nn dep) t (nn (Nn dep (zI t 1)))).toInt
  · rw [decide_eq_true ⟨Int32.le_iff_toInt_le.mpr (by rw [z1]; exact c1.1), Int32.le_iff_toInt_le.mpr c1.2⟩, b2i_t, if_neg (by decide), x_b1 (kh_4 K), x_b1 (i_im _ _ _ _ _), x_b1 (k_inRange _ _ _)]
    by_cases c2 : 0 ≤ r.toInt ∧ r.toInt ≤ (imin v (Nn dep (zI t 4))).toInt
    · rw [decide_eq_true ⟨Int32.le_iff_toInt_le.mpr (by rw [z0]; exact c2.1), Int32.le_iff_toInt_le.mpr c2.2⟩, b2i_t, if_neg (by decide), x_b1 (kh_4 K), if_pos (Classical.not_not.mp (fun z => hv ⟨⟨c1, c2⟩, z⟩)), fin]
    · rw [decide_eq_false (fun z => c2 ⟨by have := Int32.le_iff_toInt_le.mp z.1; omega, Int32.le_iff_toInt_le.mp z.2⟩), b2i_f, if_pos (by decide), fin]
  · rw [decide_eq_false (fun z => c1 ⟨by have := Int32.le_iff_toInt_le.mp z.1; omega, Int32.le_iff_toInt_le.mp z.2⟩), b2i_f, if_pos (by decide), fin]
/-! planned -/
theorem k_thr1 : fX1_checkThere (Int32.ofNat 1) Γ h n = some (.inl (), h, 0, 0) := by
  unfold fX1_checkThere
  simp only [i_ofNat, if_neg b2i_1, xpure]
theorem k_thr0 : fX1_checkThere (Int32.ofNat 0) Γ h n = some (.inr n, kNx h n 10, 1, 6) := by
  have ho : xobj (kNx h n 10) (some n) = some (n, 10, []) := by unfold xobj kNx; simp only [up_self]
  have ht : xthrow (α := Unit) (some n) Γ (kNx h n 10) (n + 1) = some (.inr n, kNx h n 10, 0, 0) := by unfold xthrow; rw [ho]
  unfold fX1_checkThere
  simp only [i_ofNat, if_true, xbind, xmk, Nat.add_zero, Nat.zero_add]
  rw [show xupd h n (true, .inr (10, [])) = kNx h n 10 from rfl, ht]
theorem kHs.pa {p : Int32} (H : kHs h x hi dep Dh a E P FE Nn mx D T B M) (hb : xbd n h) : ∃ g, xsel (some (a dep 0)) [(1, fun z => fX2_planAt z p)] Γ h n = some (.inl (kPA (B dep) (nn (Nn dep 3)) p), g, 4, 21) ∧ hsub h g ∧ xbd (n + 4) g := by
  have F := H.2.2.2.2.2.1 dep (Nat.le_refl _)
  exact k_planAt (yO_of _ _ _ F.1.1) F.1.2.2.1 F.2.1 hb
theorem k_planned1 {k w : Nat} (H : kHs h x hi dep Dh a E P FE Nn mx D T B M) (hb : xbd n h) (hk : k < nn (Nn dep 3)) (hw : w ≤ 4) : ∃ g, fX1_planned x (Int32.ofNat k) (Int32.ofNat w) Γ h n = some (.inl (Nn dep (4 + 5 * k + w)), g, 4, 21) ∧ hsub h g ∧ xbd (n + 4) g := by
  have W := H.w
  have F := H.2.2.2.2.2.1 dep (Nat.le_refl _)
  have c12 := F.2.1.2.1.1
  have i0 : (0 : Int32) = Int32.ofNat 0 := rfl
  have i4 : (4 : Int32) = Int32.ofNat 4 := rfl
  obtain ⟨g, e1, e2, e3⟩ := H.pa (Γ := Γ) (p := Int32.ofNat k) hb
  have ek : kPA (B dep) (nn (Nn dep 3)) (Int32.ofNat k) = some (B dep k) := by
    unfold kPA
    rw [i_toInt (by omega), if_pos (by omega)]
    rfl
  rw [ek] at e1
  have Pk := (F.2.1.2.1.2.1 k hk).1.sub e2
  refine ⟨g, ?_, e2, e3⟩
  unfold fX1_planned
  rw [i0, i4, x_b1 (k_rng1 (lo := 0) (hi' := 4) (by omega) (by omega) (by rw [i_toInt (by omega)]; omega)), x_b1 k_thr1, x_b1 (kw_now W), x_bc e1, if_neg (fun z => nomatch z), x_b1 (k_plPart Pk (by omega))]
  rfl
theorem k_planned0 {p q : Int32} (hq : ¬ (0 ≤ q.toInt ∧ q.toInt ≤ 4)) : fX1_planned x p q Γ h n = some (.inr n, kNx h n 10, 1, 6) := by
  have i0 : (0 : Int32) = Int32.ofNat 0 := rfl
  have i4 : (4 : Int32) = Int32.ofNat 4 := rfl
  unfold fX1_planned
  rw [i0, i4, x_b1 (k_rng0 (lo := 0) (hi' := 4) (by omega) (by omega) hq), x_bx k_thr0]
theorem k_planned3 {p q : Int32} (H : kHs h x hi dep Dh a E P FE Nn mx D T B M) (hb : xbd n h) (hq : 0 ≤ q.toInt ∧ q.toInt ≤ 4) (hk : ¬ (0 ≤ p.toInt ∧ p.toInt < nn (Nn dep 3))) : ∃ g, fX1_planned x p q Γ h n = some (.inl (-Int32.ofNat 1), g, 4, 21) ∧ hsub h g ∧ xbd (n + 4) g := by
  have W := H.w
  have i0 : (0 : Int32) = Int32.ofNat 0 := rfl
  have i4 : (4 : Int32) = Int32.ofNat 4 := rfl
  obtain ⟨g, e1, e2, e3⟩ := H.pa (Γ := Γ) (p := p) hb
  have ek : kPA (B dep) (nn (Nn dep 3)) p = none := by
    unfold kPA
    rw [if_neg hk]
  rw [ek] at e1
  refine ⟨g, ?_, e2, e3⟩
  unfold fX1_planned
  rw [i0, i4, x_b1 (k_rng1 (lo := 0) (hi' := 4) (by omega) (by omega) hq), x_b1 k_thr1, x_b1 (kw_now W), x_bc e1, if_pos rfl]
  rfl
end SW
