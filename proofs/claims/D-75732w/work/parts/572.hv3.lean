/-! part 572: illness; a herd's changes are those of the twin's numbers -/
theorem isum_out {f : Nat → Int32} {j : Nat} {w : Int32} : ∀ (k x : Nat), (j < x ∨ x + k ≤ j) → isum (va_up f j w) x k = isum f x k := by
  intro k x h
  exact isum_congr k x (fun t h1 h2 => by rw [va_ap, if_neg (by omega)])
theorem isum_up {f : Nat → Int32} {j : Nat} {w : Int32} : ∀ (k x : Nat), x ≤ j → j < x + k → isum (va_up f j w) x k = isum f x k - f j + w := by
  intro k
  induction k with
  | zero => intro x h1 h2; omega
  | succ k ih =>
    intro x h1 h2
    rw [isum, isum]
    by_cases c : x = j
    · subst c
      rw [isum_out k (x + 1) (Or.inl (by omega)), va_ap, if_pos rfl]
      grind
    · rw [ih (x + 1) (by omega) (by omega), va_ap, if_neg c]
      grind
theorem isum_sub {f : Nat → Int32} {j : Nat} {v : Int32} (hj : j < 13) : isum (va_up f j (f j - v)) 0 13 = isum f 0 13 - v := by
  rw [isum_up 13 0 (by omega) (by omega)]
  grind
section HX
variable {Γ : Nat → Option Nat} {h : xH} {n p s fe o a : Nat} {Y : Nat → Nat} {N : Nat → Int32} {q : hP} {v : Int32}
def qSk1 (th b : Int32) (x k : Nat) (q : hP) (c : Int32) : hP := qLose ((qSick th x k q c).1.sl (va_up (qSick th x k q c).1.l 2 ((qSick th x k q c).1.l 2 + (qSick th x k q c).2))) b (b - (qSick th x k q c).2)
theorem hv_sick15 (d : hD Y) {y : Nat} (hy : y ≤ 12) (th b : Int32) : ∀ (k x fu : Nat) (q : hP) (c : Int32), x + k = y + 1 → k < fu → fX6_sick_p15 fu (Y 0) (Int32.ofNat y) th b c (Int32.ofNat x) Γ (hV h Y p q) n = some (.inl (qSick th x k q c).2, hV h Y p (qSk1 th b x k q c), 0, 0) := by
  have i1 : (1 : Int32) = Int32.ofNat 1 := rfl
  have z1000 : ¬ (1000 : Int64) = 0 := by decide
  intro k
  induction k with
  | zero =>
    intro x fu q c hx hf
    obtain ⟨fu, rfl⟩ : ∃ g, fu = g + 1 := ⟨fu - 1, by omega⟩
    rw [fX6_sick_p15, if_pos (by rw [i_lt (by omega) (by omega)]; omega), x_b1 (hv_g6 d), x_b1 (hv_l (by omega)), x_b1 (hv_pl d (by omega)), x_b1 (hv_lose d _ _)]
    rfl
  | succ k ih =>
    intro x fu q c hx hf
    obtain ⟨fu, rfl⟩ : ∃ g, fu = g + 1 := ⟨fu - 1, by omega⟩
    rw [fX6_sick_p15, if_neg (by rw [i_lt (by omega) (by omega)]; omega), x_b1 (hv_coh d (by omega))]
    unfold xdvJ
    rw [if_neg z1000, xlet_ap, x_b1 (hv_g2 d), x_b1 (hv_k1 d), x_b1 (hv_ld3 d (by omega)), x_b1 (hv_st3 d (by omega)), xlet_ap, xlet_ap, i1, i_add]
    exact ih (x + 1) fu (q.s3 (va_up q.f3 x (q.f3 x - pGone (q.f3 x) th))) (c + pGone (q.f3 x) th) (by omega) (by omega)
theorem hv_sick (d : hD Y) {x y : Nat} (hx : x ≤ y) (hy : y ≤ 12) (th : Int32) : xsel (some (Y 0)) [(19, fun z => fX6_sick z (Int32.ofNat x) (Int32.ofNat y) th)] Γ (hV h Y p q) n = some (.inl (qSick th x (y + 1 - x) q (Int32.ofNat 0)).2, hV h Y p (qSk1 th (isum q.f3 0 13) x (y + 1 - x) q (Int32.ofNat 0)), 0, 0) := by
  rw [hv_sel d]
  unfold fX6_sick
  rw [x_b1 (hv_g2 d), x_b1 (hv_tot d), xlet_ap]
  exact hv_sick15 d hy th _ (y + 1 - x) x xFU q (Int32.ofNat 0) (by omega) (by unfold xFU; omega)
/-! the same changes -/
/-- N' has the same ages -/
theorem zI_z {a b : Nat} (h : a ≠ b) : ¬ zI s a = zI s b := zI_ne h
theorem hA_add {j : Nat} (A : hA q N s) (h12 : nn (N (zI s 1)) ≤ 12) (hj : j < 13) : hA (qAdd q j v) (pAdds N s j v) s := by
  obtain ⟨A1, A3, Ar, Am, Af, L0, L1, L2, L3, L4, L6⟩ := A
  have e : ∀ w, w ≠ 11 → w ≠ 39 + j → pAdds N s j v (zI s w) = N (zI s w) := fun w h1 h2 => by
    unfold pAdds
    rw [va_ap, if_neg (zI_ne h1), va_ap, if_neg (zI_ne h2)]
  have e1 := e 1 (by omega) (by omega)
  unfold hA
  rw [e1, e 3 (by omega) (by omega), e 4 (by omega) (by omega), e 6 (by omega) (by omega), e 7 (by omega) (by omega), e 8 (by omega) (by omega), e 9 (by omega) (by omega), e 10 (by omega) (by omega), e 5 (by omega) (by omega)]
  refine ⟨fun t ht => ?_, fun t ht => ?_, Ar, Am, Af, L0, L1, L2, L3, ?_, L6⟩
  · rw [e _ (by omega) (by omega)]
    exact A1 t ht
  · show va_up q.f3 j (q.f3 j + v) t = _
    rw [va_ap]
    by_cases c : t = j
    · subst c
      unfold pAdds
      rw [if_pos rfl, va_ap, if_neg (zI_ne (by omega)), va_ap, if_pos rfl, A3 t ht]
    · rw [if_neg c, e _ (by omega) (by omega)]
      exact A3 t ht
  · show va_up q.l 4 (q.l 4 + v) 4 = _
    unfold pAdds
    rw [va_ap, if_pos rfl, va_ap, if_pos rfl, va_ap, if_neg (zI_ne (by omega)), L4]
end HX
