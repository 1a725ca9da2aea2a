/-! part 581: actions on a herd: what they change; room, survival, marks -/
def wM (w : Nat) : Prop := w = 3 ∨ w = 4 ∨ (7 ≤ w ∧ w ≤ 11) ∨ (13 ≤ w ∧ w < 26) ∨ (39 ≤ w ∧ w < 52)
/-- only such numbers of species t differ -/
def chg (N N' : Nat → Int32) (t : Nat) : Prop := ∀ j, (∀ w, wM w → j ≠ zI t w) → N' j = N j
section CG
variable {N N' M : Nat → Int32} {t w : Nat} {v : Int32}
theorem chg.rfl : chg N N t := fun _ _ => Eq.refl _
theorem chg.up (c : chg N M t) (hw : wM w) : chg N (va_up M (zI t w) v) t := fun j hj => by
  rw [va_ap, if_neg (hj w hw)]
  exact c j hj
theorem chg.lose {o : Nat} {b : Int32} (c : chg N M t) : chg N (pLose M t o b) t := by
  unfold pLose
  split
  · exact c
  · exact c.up (by unfold wM; omega)
theorem chg.n1 (c : chg N N' t) : ∀ j, j < 592 → (∀ w, w < 132 → j ≠ zI t w) → N' j = N j := fun j _ hj => c j (fun w hw => hj w (by unfold wM at hw; omega))
theorem chg.n2 (c : chg N N' t) : ∀ w, w < 132 → (w < 3 ∨ w = 12 ∨ (26 ≤ w ∧ w < 39) ∨ 52 ≤ w) → N' (zI t w) = N (zI t w) := fun w _ hw => c _ (fun u hu => zI_ne (by unfold wM at hu; omega))
theorem chg.ne (c : chg N N' t) (hw : ¬ wM w) : N' (zI t w) = N (zI t w) := c _ (fun u hu => zI_ne (fun e => hw (by rw [e]; exact hu)))
theorem chg.hd {j : Nat} (c : chg N N' t) (hj : j < 64) : N' j = N j := c j (fun u hu => by unfold zI; omega)
theorem chg.og (c : chg N N' t) (og : okG N) : okG N' := by
  intro s hs
  rw [c.hd (by omega)] at hs
  have e : N' (zI s 6) = N (zI s 6) := c _ (fun u hu => by
    by_cases z : s = t
    · rw [z]; exact zI_ne (by unfold wM at hu; omega)
    · exact zI_ne2 z (by omega) (by unfold wM at hu; omega))
  rw [e]
  exact og s hs
theorem chg.take {o j : Nat} (hj : j < 13) : chg N (pTake N t o j v) t := by
  unfold pTake pTake0
  exact ((chg.rfl.up (by unfold wM; omega)).up (by unfold wM; omega)).lose
theorem chg.adds {j : Nat} (hj : j < 13) : chg N (pAdds N t j v) t := by
  unfold pAdds
  exact (chg.rfl.up (by unfold wM; omega)).up (by unfold wM; omega)
theorem chg.sick {o x k : Nat} (hk : x + k ≤ 13) : chg N (pSickens N t o x k v).1 t := by
  unfold pSickens
  refine chg.lose (chg.up (fun j hj => ?_) (by unfold wM; omega))
  by_cases c : j < zI t (39 + x) ∨ zI t (39 + x + k) ≤ j
  · exact pSick_ne t v k x N _ j c
  · exfalso
    refine hj (j - zI t 0) (by unfold wM; unfold zI at *; omega) (by unfold zI at *; omega)
end CG
section AC
variable {Γ : Nat → Option Nat} {h : xH} {n x hi dep t : Nat} {Dh P FE mx : Nat → Nat} {a D T B M : Nat → Nat → Nat} {E : Nat → Nat → Nat → Nat} {Nn : Nat → Nat → Int32} {v : Int32}
theorem kHs.w (H : kHs h x hi dep Dh a E P FE Nn mx D T B M) : kW h x (a dep 0) (a dep 1) (a dep 2) (a dep 3) (E dep) P FE (Nn dep) := by
  have F := H.2.2.2.2.2.1 dep (Nat.le_refl _)
  exact ⟨H.1, H.2.1, F.2.2.2.1, F.1, F.2.2.2.2.2⟩
theorem kHs.og (H : kHs h x hi dep Dh a E P FE Nn mx D T B M) : okG (Nn dep) := (H.2.2.2.2.2.1 dep (Nat.le_refl _)).2.2.2.2.1
theorem k_cst1 : fX1_checkState (Int32.ofNat 1) Γ h n = some (.inl (), h, 0, 0) := by
  unfold fX1_checkState
  simp only [i_ofNat, if_neg b2i_1, xpure]
theorem k_cst0 : fX1_checkState (Int32.ofNat 0) Γ h n = some (.inr n, kNx h n 35, 1, 6) := by
  have ho : xobj (kNx h n 35) (some n) = some (n, 35, []) := by unfold xobj kNx; simp only [up_self]
  have ht : xthrow (α := Unit) (some n) Γ (kNx h n 35) (n + 1) = some (.inr n, kNx h n 35, 0, 0) := by unfold xthrow; rw [ho]
  unfold fX1_checkState
  simp only [i_ofNat, if_true, xbind, xmk, Nat.add_zero, Nat.zero_add]
  rw [show xupd h n (true, .inr (35, [])) = kNx h n 35 from rfl, ht]
theorem k_rng1 {lo hi' : Nat} (h1 : lo < 2147483648) (h2 : hi' < 2147483648) (hv : (lo : Int) ≤ v.toInt ∧ v.toInt ≤ hi') : fX1_inRange v (Int32.ofNat lo) (Int32.ofNat hi') Γ h n = some (.inl (Int32.ofNat 1), h, 0, 0) := by
  rw [k_inRange, decide_eq_true ((i_rngI h1 h2).mpr hv), b2i_t]
theorem k_rng0 {lo hi' : Nat} (h1 : lo < 2147483648) (h2 : hi' < 2147483648) (hv : ¬ ((lo : Int) ≤ v.toInt ∧ v.toInt ≤ hi')) : fX1_inRange v (Int32.ofNat lo) (Int32.ofNat hi') Γ h n = some (.inl (Int32.ofNat 0), h, 0, 0) := by
  rw [k_inRange, decide_eq_false (fun z => hv ((i_rngI h1 h2).mp z)), b2i_f]
/-! room -/
theorem k_setRoom1 (H : kHs h x hi dep Dh a E P FE Nn mx D T B M) (hb : xbd n h) (ht : t < nn (Nn dep 0)) (hv : 0 ≤ v.toInt ∧ v.toInt ≤ 99999) : ∃ g dc ds, fX1_setRoom x (Int32.ofNat t) v Γ h n = some (.inl (Nn dep (zI t 3)), g, dc, ds) ∧ dc ≤ 61 ∧ ds ≤ 910 ∧ kMr h n x hi dep Dh a E P FE Nn mx D T B M (va_up (Nn dep) (zI t 3) v) (mx dep) g dc := by
  have W := H.w
  have h12 := (kw_12 W ht).1
  have i0 : (0 : Int32) = Int32.ofNat 0 := rfl
  have i9 : (99999 : Int32) = Int32.ofNat 99999 := rfl
  obtain ⟨g, Y, q, dc, ds, r1, r2, r3, d, A, r4⟩ := k_changed (Γ := Γ) H hb ht
  have C : chg (Nn dep) (va_up (Nn dep) (zI t 3) v) t := chg.rfl.up (Or.inl rfl)
  refine ⟨hV g Y (P t) (q.sr v), dc, ds, ?_, r2, r3, r4 _ _ (hA_r A h12) (fun j hj hn => ?_) C.n1 C.n2 (C.og H.og)⟩
  · unfold fX1_setRoom
    rw [x_b1 ((kw_x W).trans (k_herd1 W ht)), x_b1 (kh_3 (kw_hd W ht)), i0, i9, x_b1 (k_rng1 (lo := 0) (hi' := 99999) (by omega) (by omega) hv), x_b1 k_carg1, x_bc r1, x_b1 (hv_p3 d)]
    rfl
  · rw [C.ne (by unfold wM; omega)] at hn
    rw [va_ap, if_neg (zI_ne (by omega))]
    exact kw_z W ht j hj hn
theorem k_setRoom0 {p : Int32} (H : kHs h x hi dep Dh a E P FE Nn mx D T B M) (hp : ¬ vS (Nn dep) p) : fX1_setRoom x p v Γ h n = some (.inr n, kNx h n 8, 1, 6) := by
  unfold fX1_setRoom
  rw [x_bx ((kw_x H.w).trans (k_herd0 H.w hp))]
theorem k_setRoom2 (H : kHs h x hi dep Dh a E P FE Nn mx D T B M) (ht : t < nn (Nn dep 0)) (hv : ¬ (0 ≤ v.toInt ∧ v.toInt ≤ 99999)) : fX1_setRoom x (Int32.ofNat t) v Γ h n = some (.inr n, kNx h n 3, 1, 6) := by
  have W := H.w
  have i0 : (0 : Int32) = Int32.ofNat 0 := rfl
  have i9 : (99999 : Int32) = Int32.ofNat 99999 := rfl
  unfold fX1_setRoom
  rw [x_b1 ((kw_x W).trans (k_herd1 W ht)), x_b1 (kh_3 (kw_hd W ht)), i0, i9, x_b1 (k_rng0 (lo := 0) (hi' := 99999) (by omega) (by omega) hv), x_bx k_carg0]
/-! survival -/
theorem k_setSurvival1 {j : Nat} (H : kHs h x hi dep Dh a E P FE Nn mx D T B M) (hb : xbd n h) (ht : t < nn (Nn dep 0)) (hj : j ≤ nn (Nn dep (zI t 1))) (hv : 0 ≤ v.toInt ∧ v.toInt ≤ 1000) : ∃ g dc ds, fX1_setSurvival x (Int32.ofNat t) (Int32.ofNat j) v Γ h n = some (.inl (Nn dep (zI t (13 + j))), g, dc, ds) ∧ dc ≤ 61 ∧ ds ≤ 910 ∧ kMr h n x hi dep Dh a E P FE Nn mx D T B M (va_up (Nn dep) (zI t (13 + j)) v) (mx dep) g dc := by
  have W := H.w
  have h12 := (kw_12 W ht).1
  have i0 : (0 : Int32) = Int32.ofNat 0 := rfl
  have i9 : (1000 : Int32) = Int32.ofNat 1000 := rfl
  obtain ⟨g, Y, q, dc, ds, r1, r2, r3, d, A, r4⟩ := k_changed (Γ := Γ) H hb ht
  have C : chg (Nn dep) (va_up (Nn dep) (zI t (13 + j)) v) t := chg.rfl.up (by unfold wM; omega)
  refine ⟨hV g Y (P t) (q.s1 (va_up q.f1 j v)), dc, ds, ?_, r2, r3, r4 _ _ (hA_f1 (by omega) A h12) (fun i hi' hn => ?_) C.n1 C.n2 (C.og H.og)⟩
  · unfold fX1_setSurvival
    rw [x_b1 ((kw_x W).trans (k_herdWith1 W ht hj)), x_b1 (kh_1 (kw_hd W ht)), x_b1 (kh_sv (kw_hd W ht) hj h12), i0, i9, x_b1 (k_rng1 (lo := 0) (hi' := 1000) (by omega) (by omega) hv), x_b1 k_carg1, x_bc r1, x_b1 (hv_g1 d), x_b1 (hv_st1 d (by omega))]
    rfl
  · rw [C.ne (by unfold wM; omega)] at hn
    rw [va_ap, if_neg (zI_ne (by omega))]
    exact kw_z W ht i hi' hn
theorem k_setSurvival0 {p q : Int32} (H : kHs h x hi dep Dh a E P FE Nn mx D T B M) (hp : ¬ vA (Nn dep) p q) : fX1_setSurvival x p q v Γ h n = some (.inr n, kNx h n 8, 1, 6) := by
  unfold fX1_setSurvival
  rw [x_bx ((kw_x H.w).trans (k_herdWith0 H.w hp))]
theorem k_setSurvival2 {j : Nat} (H : kHs h x hi dep Dh a E P FE Nn mx D T B M) (ht : t < nn (Nn dep 0)) (hj : j ≤ nn (Nn dep (zI t 1))) (hv : ¬ (0 ≤ v.toInt ∧ v.toInt ≤ 1000)) : fX1_setSurvival x (Int32.ofNat t) (Int32.ofNat j) v Γ h n = some (.inr n, kNx h n 3, 1, 6) := by
  have W := H.w
  have h12 := (kw_12 W ht).1
  have i0 : (0 : Int32) = Int32.ofNat 0 := rfl
  have i9 : (1000 : Int32) = Int32.ofNat 1000 := rfl
  unfold fX1_setSurvival
  rw [x_b1 ((kw_x W).trans (k_herdWith1 W ht hj)), x_b1 (kh_1 (kw_hd W ht)), x_b1 (kh_sv (kw_hd W ht) hj h12), i0, i9, x_b1 (k_rng0 (lo := 0) (hi' := 1000) (by omega) (by omega) hv), x_bx k_carg0]
/-! marks -/
theorem k_mark1 (H : kHs h x hi dep Dh a E P FE Nn mx D T B M) (hb : xbd n h) (ht : t < nn (Nn dep 0)) (hv : ¬ v < Int32.ofNat 1) (hc : ¬ pTot (Nn dep) t (nn (Nn dep (zI t 1))) - Nn dep (zI t 4) < v) : ∃ g dc ds, fX1_mark x (Int32.ofNat t) v Γ h n = some (.inl (Nn dep (zI t 4) + v), g, dc, ds) ∧ dc ≤ 61 ∧ ds ≤ 910 ∧ kMr h n x hi dep Dh a E P FE Nn mx D T B M (va_up (Nn dep) (zI t 4) (Nn dep (zI t 4) + v)) (mx dep) g dc := by
  have W := H.w
  have h12 := (kw_12 W ht).1
  have i1 : (1 : Int32) = Int32.ofNat 1 := rfl
  obtain ⟨g, Y, q, dc, ds, r1, r2, r3, d, A, r4⟩ := k_changed (Γ := Γ) H hb ht
  have C : chg (Nn dep) (va_up (Nn dep) (zI t 4) (Nn dep (zI t 4) + v)) t := chg.rfl.up (Or.inr (Or.inl rfl))
  have Am := A.2.2.2.1
  refine ⟨hV g Y (P t) (q.sm (Nn dep (zI t 4) + v)), dc, ds, ?_, r2, r3, r4 _ _ (hA_m A h12) (fun j hj hn => ?_) C.n1 C.n2 (C.og H.og)⟩
  · unfold fX1_mark
    rw [x_b1 ((kw_x W).trans (k_herd1 W ht)), i1, if_neg hv]
    unfold fX1_mark_p16
    rw [x_b1 k_carg1, x_b1 (kh_2 (kw_hd W ht)), x_b1 (kh_total (kw_hd W ht) h12), x_b1 (kh_4 (kw_hd W ht)), if_neg hc]
    unfold fX1_mark_p40
    rw [i1, x_b1 k_cst1, x_bc r1, x_b1 (hv_g4 d), x_b1 (hv_p4 d), x_b1 (hv_g4 d), Am]
    rfl
  · rw [C.ne (by unfold wM; omega)] at hn
    rw [va_ap, if_neg (zI_ne (by omega))]
    exact kw_z W ht j hj hn
theorem k_mark0 {p : Int32} (H : kHs h x hi dep Dh a E P FE Nn mx D T B M) (hp : ¬ vS (Nn dep) p) : fX1_mark x p v Γ h n = some (.inr n, kNx h n 8, 1, 6) := by
  unfold fX1_mark
  rw [x_bx ((kw_x H.w).trans (k_herd0 H.w hp))]
theorem k_mark2 (H : kHs h x hi dep Dh a E P FE Nn mx D T B M) (ht : t < nn (Nn dep 0)) (hv : v < Int32.ofNat 1) : fX1_mark x (Int32.ofNat t) v Γ h n = some (.inr n, kNx h n 3, 1, 6) := by
  have W := H.w
  have i1 : (1 : Int32) = Int32.ofNat 1 := rfl
  have i0 : (0 : Int32) = Int32.ofNat 0 := rfl
  unfold fX1_mark
  rw [x_b1 ((kw_x W).trans (k_herd1 W ht)), i1, if_pos hv]
  unfold fX1_mark_p16
  rw [i0, x_bx k_carg0]
theorem k_mark3 (H : kHs h x hi dep Dh a E P FE Nn mx D T B M) (ht : t < nn (Nn dep 0)) (hv : ¬ v < Int32.ofNat 1) (hc : pTot (Nn dep) t (nn (Nn dep (zI t 1))) - Nn dep (zI t 4) < v) : fX1_mark x (Int32.ofNat t) v Γ h n = some (.inr n, kNx h n 35, 1, 6) := by
  have W := H.w
  have h12 := (kw_12 W ht).1
  have i1 : (1 : Int32) = Int32.ofNat 1 := rfl
  have i0 : (0 : Int32) = Int32.ofNat 0 := rfl
  unfold fX1_mark
  rw [x_b1 ((kw_x W).trans (k_herd1 W ht)), i1, if_neg hv]
  unfold fX1_mark_p16
  rw [x_b1 k_carg1, x_b1 (kh_2 (kw_hd W ht)), x_b1 (kh_total (kw_hd W ht) h12), x_b1 (kh_4 (kw_hd W ht)), if_pos hc]
  unfold fX1_mark_p40
  rw [i0, x_bx k_cst0]
end AC
