/-! part 578: a herd of the present state is changed -/
theorem pRw_e {N N' : Nat → Int32} {c j w : Nat} (e : ∀ j, j < 64 → N' j = N j) (hc : c ≤ 12) (hj : j < c) (hw : w < 5) : pRw N' j w = pRw N j w := e _ (by omega)
theorem kPr.cgN {h : xH} {N N' : Nat → Int32} {c mx : Nat} {B M : Nat → Nat} (P : kPr h N c mx B M) (e : ∀ j, j < 64 → N' j = N j) : kPr h N' c mx B M := by
  have hc := P.1
  have ky : ∀ j, j < c → pKy (pRw N' j) (M j) = pKy (pRw N j) (M j) := fun j hj => by
    unfold pKy
    rw [pRw_e e hc hj (by omega), pRw_e e hc hj (by omega), pRw_e e hc hj (by omega), pRw_e e hc hj (by omega)]
  refine ⟨hc, fun j hj => ?_, fun i j ij hj => by rw [ky i (by omega), ky j hj]; exact P.2.2 i j ij hj⟩
  obtain ⟨⟨k1, k2, k3, k4, k5, k6, k7⟩, ⟨o1, o2, o3, o4, o5, o6⟩, k9⟩ := P.2.1 j hj
  have q := fun w hw => pRw_e (w := w) e hc hj hw
  refine ⟨⟨k1, by rw [q 0 (by omega)]; exact k2, by rw [q 1 (by omega)]; exact k3, by rw [q 2 (by omega)]; exact k4, by rw [q 3 (by omega)]; exact k5, by rw [q 4 (by omega)]; exact k6, k7⟩, ⟨fun w hw => by rw [q w (by omega)]; exact o1 w hw, by rw [q 0 (by omega)]; exact o2, by rw [q 1 (by omega)]; exact o3, by rw [q 2 (by omega)]; exact o4, by rw [q 3 (by omega)]; exact o5, o6⟩, k9⟩
section ST
variable {g g' : xH} {a : Nat → Nat} {E : Nat → Nat → Nat} {P FE D T B M Y' : Nat → Nat} {N N' : Nat → Int32} {mx lo m m' t : Nat}
/-- no cell of a herd is a sighting, a plan, a kind, a list or a list's node -/
theorem kHd.nc {Y : Nat → Nat} {p s q c : Nat} (H : kHd g Y p N s) (hq : yO g c q) (hc : c ≠ 19 ∧ c ≠ 24 ∧ c ≠ 22 ∧ c ≠ 23) : ∀ k, k < 7 → q ≠ Y k := by
  obtain ⟨h1, h2, h3, h4, h5, h6, h7, h8, h9, ⟨s1, s2, s3⟩, h10, h11, h12, h13, Q, h14, h15⟩ := H
  intro k hk
  rcases (show k = 0 ∨ k = 1 ∨ k = 2 ∨ k = 3 ∨ k = 4 ∨ k = 5 ∨ k = 6 by omega) with rfl | rfl | rfl | rfl | rfl | rfl | rfl
  · exact yO_ne hq (yO_of _ _ _ h1) (by omega)
  · exact yOA_ne hq (yA_of _ _ _ s1)
  · exact yO_ne hq (yO_of _ _ _ h10.1) (by omega)
  · exact yOA_ne hq (yA_of _ _ _ h10.2.2.2.1)
  · exact yO_ne hq (yO_of _ _ _ h13.1) (by omega)
  · exact yO_ne hq (yO_of _ _ _ h14.1) (by omega)
  · exact yOA_ne hq (yA_of _ _ _ h14.2.2.1)
theorem kFs.set (F : kFs g a E P FE N mx D T B M) (ht : t < nn (N 0)) (Fr : kFr (nn (N 0)) lo m E) (al : ∀ k, k < 3 → a k < lo) (fe : ∀ s, s < nn (N 0) → FE s < lo)
    (fr : ∀ q, g q ≠ none → (∀ k, k < 7 → q ≠ E t k) → g' q = g q) (K : kHd g' Y' (P t) N' t) (y0 : Y' 0 = E t 0)
    (n1 : ∀ j, j < 592 → (∀ w, w < 132 → j ≠ zI t w) → N' j = N j) (n2 : ∀ w, w < 132 → (w < 3 ∨ (26 ≤ w ∧ w < 39)) → N' (zI t w) = N (zI t w)) (og : okG N') : kFs g' a (fun j => if j = t then Y' else E j) P FE N' mx D T B M := by
  obtain ⟨⟨h1, h2, h3, h4, h5, h6, h7, h8, h9, h10, h11, h12⟩, ⟨l1, l2, l3, l4⟩, hm, ok, og0, sp⟩ := F
  have c4 := ok.2.1
  have hd : ∀ j, j < 64 → N' j = N j := fun j hj => n1 j (by omega) (fun w _ => by unfold zI; omega)
  have s12 : ∀ s w, s < 4 → w < 3 → N' (zI s w) = N (zI s w) := by
    intro s w hs hw
    by_cases c : s = t
    · rw [c]; exact n2 w (by omega) (by omega)
    · exact n1 _ (by unfold zI; omega) (fun v hv => zI_ne2 c (by omega) hv)
  have ok' : okN N' := ok.congr hd (fun s hs => ⟨s12 s 1 hs (by omega), s12 s 2 hs (by omega)⟩)
  have ne : ∀ {q : Nat}, q < lo → ∀ k, k < 7 → q ≠ E t k := fun hq k hk => by have := Fr.1 t k ht hk; omega
  have e0 : g' (a 0) = g (a 0) := fr _ (yO_at (yO_of _ _ _ h1)) (ne (al 0 (by omega)))
  have e1 : g' (a 1) = g (a 1) := fr _ (yO_at (yO_of _ _ _ h6)) (ne (al 1 (by omega)))
  have e2 : g' (a 2) = g (a 2) := fr _ (yA_at (yA_of _ _ _ h8)) (ne (al 2 (by omega)))
  have eo : ∀ {c q : Nat}, yO g c q → (c ≠ 19 ∧ c ≠ 24 ∧ c ≠ 22 ∧ c ≠ 23) → g' q = g q := fun hq hc => fr _ (yO_at hq) ((h12 t ht).nc hq hc)
  refine ⟨⟨(yW_c e0).mpr h1, (yr_c e0).trans h2, (yr_c e0).trans h3, by rw [yi_c e0, hd 1 (by omega)]; exact h4, by rw [yi_c e0, hd 2 (by omega)]; exact h5, (yW_c e1).mpr h6, (yr_c e1).trans h7, (yB_c e2).mpr h8, (yln_c e2).trans h9, by rw [yi_c e1, hd 0 (by omega)]; exact h10, fun j hj => ?_, fun j hj => ?_⟩, ⟨?_, ?_, ?_, ?_⟩, (yi_c e0).trans hm, ok', og, fun s hs => ?_⟩
  · rw [hd 0 (by omega)] at hj
    rw [ylr_c e2, h11 j hj]
    dsimp only
    by_cases c : j = t
    · rw [if_pos c, c, y0]
    · rw [if_neg c]
  · rw [hd 0 (by omega)] at hj
    dsimp only
    by_cases c : j = t
    · rw [if_pos c, c]; exact K
    · rw [if_neg c]
      have J := h12 j hj
      refine (J.cg (fun k hk => ?_) (fun q hq => eo hq (by omega))).cgN (ok.2.2.2.2.2.2.2.2.1 j hj).2.1 (fun w hw => n1 _ (by unfold zI; omega) (fun v hv => zI_ne2 c hw hv))
      exact fr _ (J.at k hk) (fun k' hk' z => c (Fr.2 j k t k' hj (by omega) ht hk' z).1)
  · rw [hd 3 (by omega)]
    exact l1.cg (eo (yO_of _ _ _ l1.1) (by omega)) (fun i hi => eo (yO_of _ _ _ (l1.2.2.2.2.2.1 i hi).1) (by omega))
  · rw [hd 3 (by omega)]
    exact (l2.cg (fun q c hq hc => eo hq (by omega))).cgN hd
  · rw [hd 3 (by omega)]; exact l3
  · rw [hd 3 (by omega)]; exact l4
  · rw [hd 0 (by omega)] at hs
    obtain ⟨p1, p2⟩ := sp s hs
    have e5 : g' (FE s) = g (FE s) := fr _ (yA_at p1.2.2.2.2.1) (ne (fe s hs))
    have w1 := s12 s 1 (by omega) (by omega)
    have w2 := s12 s 2 (by omega) (by omega)
    refine ⟨by rw [w1, w2]; exact p1.cg (eo p1.1 (by omega)) e5, fun j hj => ?_⟩
    rw [yli_c e5, p2 j hj]
    by_cases c : s = t
    · rw [c]; exact (n2 _ (by omega) (by omega)).symm
    · exact (n1 _ (by unfold zI; omega) (fun v hv => zI_ne2 c (by omega) hv)).symm
end ST
