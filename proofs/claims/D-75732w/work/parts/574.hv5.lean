/-! part 574: taking and illness, as the twin has them -/
section HZ
variable {s : Nat} {N : Nat → Int32} {q : hP} {v : Int32}
theorem pTake0_ne {j w : Nat} (h1 : w ≠ 10) (h2 : w ≠ 39 + j) : pTake0 N s j v (zI s w) = N (zI s w) := by
  unfold pTake0
  rw [va_ap, if_neg (zI_ne h1), va_ap, if_neg (zI_ne h2)]
theorem hA_take {j : Nat} (A : hA q N s) (h12 : nn (N (zI s 1)) ≤ 12) (z : ∀ j, j < 13 → nn (N (zI s 1)) < j → N (zI s (39 + j)) = Int32.ofNat 0) (hj : j ≤ nn (N (zI s 1))) (hb : 0 ≤ (pTot N s (nn (N (zI s 1)))).toInt) (h0 : pTot N s (nn (N (zI s 1))) = 0 → N (zI s 4) = 0) : hA (qTake q j v) (pTake N s (nn (N (zI s 1))) j v) s := by
  have T := hA_tot A h12 z
  have e1 : pTake0 N s j v (zI s 1) = N (zI s 1) := pTake0_ne (by omega) (by omega)
  have A' : hA ((q.s3 (va_up q.f3 j (q.f3 j - v))).sl (va_up q.l 3 (q.l 3 + v))) (pTake0 N s j v) s := by
    have B := hA_f3 (j := j) (v := q.f3 j - v) A h12
    have e : va_up N (zI s (39 + j)) (q.f3 j - v) (zI s 1) = N (zI s 1) := by rw [va_ap, if_neg (zI_ne (by omega))]
    have C := hA_l3 (v := q.l 3 + v) B (by rw [e]; exact h12)
    have l3 := A.2.2.2.2.2.2.2.2.1
    have f3 := A.2.1 j (by omega)
    unfold pTake0
    rw [va_ap, if_neg (zI_ne (by omega)), ← l3, ← f3]
    exact C
  have z' : ∀ t, t < 13 → nn (pTake0 N s j v (zI s 1)) < t → pTake0 N s j v (zI s (39 + t)) = Int32.ofNat 0 := by
    intro t h1 h2
    rw [e1] at h2
    rw [pTake0_ne (by omega) (by omega)]
    exact z t h1 h2
  have T' := hA_tot A' (by rw [e1]; exact h12) z'
  rw [e1] at T'
  have hs : isum ((q.s3 (va_up q.f3 j (q.f3 j - v))).sl (va_up q.l 3 (q.l 3 + v))).f3 0 13 = isum q.f3 0 13 - v := isum_sub (by omega)
  unfold qTake pTake
  rw [T]
  refine hA_lose A' (by rw [e1]; exact h12) hb (fun c => ?_) (fun _ => ?_)
  · rw [pTake0_ne (by omega) (by omega)]
    exact h0 c
  · rw [← T', hs, T]
theorem hA_sick0 (th : Int32) (h12 : nn (N (zI s 1)) ≤ 12) : ∀ (k x : Nat) (q : hP) (M : Nat → Int32) (c : Int32), x + k ≤ 13 → M (zI s 1) = N (zI s 1) → hA q M s → hA (qSick th x k q c).1 (pSick s th x k M c).1 s ∧ (qSick th x k q c).2 = (pSick s th x k M c).2 ∧ isum (qSick th x k q c).1.f3 0 13 = isum q.f3 0 13 - ((qSick th x k q c).2 - c) ∧ (qSick th x k q c).1.l = q.l := by
  intro k
  induction k with
  | zero =>
    intro x q M c hx hM A
    refine ⟨A, rfl, ?_, rfl⟩
    show isum q.f3 0 13 = isum q.f3 0 13 - (c - c)
    grind
  | succ k ih =>
    intro x q M c hx hM A
    have B := hA_f3 (j := x) (v := q.f3 x - pGone (q.f3 x) th) A (by rw [hM]; exact h12)
    have f3 := A.2.1 x (by omega)
    rw [f3] at B
    obtain ⟨r1, r2, r3, r4⟩ := ih (x + 1) (q.s3 (va_up q.f3 x (M (zI s (39 + x)) - pGone (M (zI s (39 + x))) th))) (va_up M (zI s (39 + x)) (M (zI s (39 + x)) - pGone (M (zI s (39 + x))) th)) (c + pGone (M (zI s (39 + x))) th) (by omega) (by rw [va_ap, if_neg (zI_ne (by omega))]; exact hM) B
    have e : qSick th x (k + 1) q c = qSick th (x + 1) k (q.s3 (va_up q.f3 x (M (zI s (39 + x)) - pGone (M (zI s (39 + x))) th))) (c + pGone (M (zI s (39 + x))) th) := by
      rw [← f3]
      rfl
    rw [e]
    refine ⟨r1, r2, ?_, r4⟩
    rw [r3]
    have hs : isum (q.s3 (va_up q.f3 x (M (zI s (39 + x)) - pGone (M (zI s (39 + x))) th))).f3 0 13 = isum q.f3 0 13 - pGone (M (zI s (39 + x))) th := by
      rw [← f3]
      exact isum_sub (by omega)
    rw [hs]
    grind
theorem hA_sick {x k : Nat} (th : Int32) (A : hA q N s) (h12 : nn (N (zI s 1)) ≤ 12) (z : ∀ j, j < 13 → nn (N (zI s 1)) < j → N (zI s (39 + j)) = Int32.ofNat 0) (hk : x + k ≤ nn (N (zI s 1)) + 1) (hb : 0 ≤ (pTot N s (nn (N (zI s 1)))).toInt) (h0 : pTot N s (nn (N (zI s 1))) = 0 → N (zI s 4) = 0) : hA (qSk1 th (isum q.f3 0 13) x k q (Int32.ofNat 0)) (pSickens N s (nn (N (zI s 1))) x k th).1 s ∧ (qSick th x k q (Int32.ofNat 0)).2 = (pSickens N s (nn (N (zI s 1))) x k th).2 := by
  have T := hA_tot A h12 z
  obtain ⟨r1, r2, r3, r4⟩ := hA_sick0 th h12 k x q N (Int32.ofNat 0) (by omega) rfl A
  have ne : ∀ w, (w < 39 + x ∨ 39 + x + k ≤ w) → (pSick s th x k N (Int32.ofNat 0)).1 (zI s w) = N (zI s w) := fun w hw => pSick_ne s th k x N _ _ (by unfold zI; omega)
  have e1 := ne 1 (by omega)
  have l2 := r1.2.2.2.2.2.2.2.1
  have A' := hA_l2 (v := (pSick s th x k N (Int32.ofNat 0)).1 (zI s 9) + (pSick s th x k N (Int32.ofNat 0)).2) r1 (by rw [e1]; exact h12)
  have e1' : va_up (pSick s th x k N (Int32.ofNat 0)).1 (zI s 9) ((pSick s th x k N (Int32.ofNat 0)).1 (zI s 9) + (pSick s th x k N (Int32.ofNat 0)).2) (zI s 1) = N (zI s 1) := by
    rw [va_ap, if_neg (zI_ne (by omega)), e1]
  have z' : ∀ t, t < 13 → nn (N (zI s 1)) < t → va_up (pSick s th x k N (Int32.ofNat 0)).1 (zI s 9) ((pSick s th x k N (Int32.ofNat 0)).1 (zI s 9) + (pSick s th x k N (Int32.ofNat 0)).2) (zI s (39 + t)) = Int32.ofNat 0 := by
    intro t h1 h2
    rw [va_ap, if_neg (zI_ne (by omega)), ne _ (by omega)]
    exact z t h1 h2
  have T' := hA_tot A' (by rw [e1']; exact h12) (by rw [e1']; exact z')
  rw [e1'] at T'
  refine ⟨?_, r2⟩
  unfold qSk1 pSickens
  dsimp only
  rw [T, l2, r2]
  refine hA_lose A' (by rw [e1']; exact h12) hb (fun c => ?_) (fun _ => ?_)
  · rw [va_ap, if_neg (zI_ne (by omega)), ne _ (by omega)]
    exact h0 c
  · rw [← T']
    show _ = isum (qSick th x k q (Int32.ofNat 0)).1.f3 0 13
    rw [r3, T, r2]
    have : Int32.ofNat 0 = 0 := rfl
    rw [this]
    grind
end HZ
