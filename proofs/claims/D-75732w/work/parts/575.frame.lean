/-! part 575: a whole state; what stays when lists, books and the system's own cell change -/
/-- cells of other classes than the system's, lists' and books' are unchanged -/
def hK (h g : xH) : Prop := ∀ q, h q ≠ none → (∀ c, yO h c q → c ≠ 0 ∧ c ≠ 6 ∧ c ≠ 25 ∧ c ≠ 16 ∧ c ≠ 36) → g q = h q
/-- a state: a 0 itself, a 1 its list of herds, a 2 its row, a 3 its list of plans -/
def kFs (h : xH) (a : Nat → Nat) (E : Nat → Nat → Nat) (P FE : Nat → Nat) (N : Nat → Int32) (mx : Nat) (D T B M : Nat → Nat) : Prop := kSta h (a 0) (a 1) (a 2) (a 3) E P N ∧ kPs h (a 3) N mx D T B M ∧ yi h 1 4 (a 0) = Int32.ofNat mx ∧ okN N ∧ okG N ∧ ∀ t, t < nn (N 0) → kSpN h (P t) (FE t) N t
section HK
variable {h g f : xH} {c q t : Nat} {a : Nat → Nat} {E : Nat → Nat → Nat} {P FE D T B M Y : Nat → Nat} {N : Nat → Int32} {mx p fe s : Nat}
theorem hK.o (k : hK h g) (H : yO h c q) (hc : c ≠ 0 ∧ c ≠ 6 ∧ c ≠ 25 ∧ c ≠ 16 ∧ c ≠ 36) : g q = h q := k q (yO_at H) (fun d K => by rw [← yO_uq H K]; exact hc)
theorem hK.ar (k : hK h g) (H : yA h t q) : g q = h q := k q (yA_at H) (fun d K => absurd K (fun K => yA_no H K))
theorem hsub.k (s : hsub h g) : hK h g := fun q hq _ => s q hq
theorem hK.trans (k : hK h g) (r : hK g f) (hd : ∀ q, h q ≠ none → yhd g q = yhd h q) : hK h f := fun q hq hc => by
  have e := k q hq hc
  rw [r q (by rw [e]; exact hq) (fun d K => hc d ((hd_O (hd q hq)).mp K)), e]
theorem kHd.k (H : kHd h Y p N s) (k : hK h g) : kHd g Y p N s := by
  have H' := H
  obtain ⟨h1, h2, h3, h4, h5, h6, h7, h8, h9, ⟨s1, s2, s3⟩, h10, h11, h12, h13, Q, h14, h15⟩ := H'
  have e0 := k.o (yO_of _ _ _ h1) (by omega)
  have e1 := k.ar (yA_of _ _ _ s1)
  have e2 := k.o (yO_of _ _ _ h10.1) (by omega)
  have e3 := k.ar (yA_of _ _ _ h10.2.2.2.1)
  have e4 := k.o (yO_of _ _ _ h13.1) (by omega)
  have e5 := k.o (yO_of _ _ _ h14.1) (by omega)
  have e6 := k.ar (yA_of _ _ _ h14.2.2.1)
  refine H.cg (fun j hj => ?_) (fun r hr => k.o hr (by omega))
  rcases (show j = 0 ∨ j = 1 ∨ j = 2 ∨ j = 3 ∨ j = 4 ∨ j = 5 ∨ j = 6 by omega) with rfl | rfl | rfl | rfl | rfl | rfl | rfl <;> assumption
theorem kSpN.k (H : kSpN h p fe N s) (k : hK h g) : kSpN g p fe N s := by
  have e2 := k.ar H.1.2.2.2.2.1
  exact ⟨H.1.cg (k.o H.1.1 (by omega)) e2, fun j hj => by rw [yli_c e2]; exact H.2 j hj⟩
theorem kSta.k {st al ae pl : Nat} (H : kSta h st al ae pl E P N) (k : hK h g) : kSta g st al ae pl E P N := by
  obtain ⟨h1, h2, h3, h4, h5, h6, h7, h8, h9, h10, h11, h12⟩ := H
  have e1 := k.o (yO_of _ _ _ h1) (by omega)
  have e6 := k.o (yO_of _ _ _ h6) (by omega)
  have e8 := k.ar (yA_of _ _ _ h8)
  exact ⟨(yW_c e1).mpr h1, (yr_c e1).trans h2, (yr_c e1).trans h3, (yi_c e1).trans h4, (yi_c e1).trans h5, (yW_c e6).mpr h6, (yr_c e6).trans h7, (yB_c e8).mpr h8, (yln_c e8).trans h9, (yi_c e6).trans h10, fun t ht => by rw [ylr_c e8]; exact h11 t ht, fun t ht => (h12 t ht).k k⟩
theorem kFs.k (H : kFs h a E P FE N mx D T B M) (k : hK h g) (e1 : g (a 3) = h (a 3)) (e2 : ∀ j, j < nn (N 3) → g (D j) = h (D j)) : kFs g a E P FE N mx D T B M := by
  obtain ⟨h1, ⟨l1, l2, l3, l4⟩, h3, h4, h5, h6⟩ := H
  exact ⟨h1.k k, ⟨l1.cg e1 e2, l2.cg (fun r c hr hc => k.o hr (by omega)), l3, l4⟩, (yi_c (k.o (yO_of _ _ _ h1.1) (by omega))).trans h3, h4, h5, fun t ht => (h6 t ht).k k⟩
theorem kFs.mono (H : kFs h a E P FE N mx D T B M) (s : hsub h g) : kFs g a E P FE N mx D T B M := H.k s.k (s _ (yO_at (yO_of _ _ _ H.2.1.1.1))) (fun j hj => s _ (yO_at (yO_of _ _ _ (H.2.1.1.2.2.2.2.2.1 j hj).1)))
/-! numbers of other species, heads and plans may change elsewhere -/
theorem kHd.cgN {N' : Nat → Int32} (H : kHd h Y p N s) (hs : nn (N (zI s 1)) ≤ 12) (e : ∀ w, w < 132 → N' (zI s w) = N (zI s w)) : kHd h Y p N' s := by
  obtain ⟨h1, h2, h3, h4, h5, h6, h7, h8, h9, ⟨s1, s2, s3⟩, h10, h11, h12, ⟨l1, l2, l3, l4, l5, l6, l7⟩, Q, h14, g1, g2, g3⟩ := H
  refine ⟨h1, h2, h3, h4, by rw [e 3 (by omega)]; exact h5, by rw [e 4 (by omega)]; exact h6, by rw [e 6 (by omega)]; exact h7, h8, h9, ⟨s1, s2, fun j hj => ?_⟩, h10, fun j hj => by rw [e _ (by omega)]; exact h11 j hj, fun j hj hn => ?_, ⟨l1, by rw [e 7 (by omega)]; exact l2, by rw [e 8 (by omega)]; exact l3, by rw [e 9 (by omega)]; exact l4, by rw [e 10 (by omega)]; exact l5, by rw [e 11 (by omega)]; exact l6, by rw [e 5 (by omega)]; exact l7⟩, Q, h14, by rw [e 12 (by omega)]; exact g1, g2, fun i hi => ⟨(g3 i hi).1, fun w hw => by rw [e _ (by omega)]; exact (g3 i hi).2 w hw⟩⟩
  · rw [e 1 (by omega)] at hj
    rw [e _ (by omega)]; exact s3 j hj
  · rw [e 1 (by omega)] at hn
    rw [e _ (by omega)]
    exact h12 j hj hn
end HK
