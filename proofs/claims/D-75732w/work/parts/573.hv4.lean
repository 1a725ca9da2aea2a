/-! part 573: single numbers of a herd, as the twin has them -/
section HY
variable {s : Nat} {N : Nat → Int32} {q : hP} {v : Int32}
theorem hA_r (A : hA q N s) (h12 : nn (N (zI s 1)) ≤ 12) : hA (q.sr v) (va_up N (zI s 3) v) s := by
  obtain ⟨A1, A3, Ar, Am, Af, L0, L1, L2, L3, L4, L6⟩ := A
  have e : ∀ w, w ≠ 3 → va_up N (zI s 3) v (zI s w) = N (zI s w) := fun w h => by rw [va_ap, if_neg (zI_ne h)]
  unfold hA
  rw [e 1 (by omega), e 4 (by omega), e 6 (by omega), e 7 (by omega), e 8 (by omega), e 9 (by omega), e 10 (by omega), e 11 (by omega), e 5 (by omega)]
  refine ⟨fun t ht => ?_, fun t ht => ?_, ?_, Am, Af, L0, L1, L2, L3, L4, L6⟩
  · rw [e _ (by omega)]; exact A1 t ht
  · rw [e _ (by omega)]; exact A3 t ht
  · rw [va_ap, if_pos rfl]; rfl
theorem hA_m (A : hA q N s) (h12 : nn (N (zI s 1)) ≤ 12) : hA (q.sm v) (va_up N (zI s 4) v) s := by
  obtain ⟨A1, A3, Ar, Am, Af, L0, L1, L2, L3, L4, L6⟩ := A
  have e : ∀ w, w ≠ 4 → va_up N (zI s 4) v (zI s w) = N (zI s w) := fun w h => by rw [va_ap, if_neg (zI_ne h)]
  unfold hA
  rw [e 1 (by omega), e 3 (by omega), e 6 (by omega), e 7 (by omega), e 8 (by omega), e 9 (by omega), e 10 (by omega), e 11 (by omega), e 5 (by omega)]
  refine ⟨fun t ht => ?_, fun t ht => ?_, Ar, ?_, Af, L0, L1, L2, L3, L4, L6⟩
  · rw [e _ (by omega)]; exact A1 t ht
  · rw [e _ (by omega)]; exact A3 t ht
  · rw [va_ap, if_pos rfl]; rfl
theorem hA_fl (A : hA q N s) (h12 : nn (N (zI s 1)) ≤ 12) : hA (q.sf v) (va_up N (zI s 6) v) s := by
  obtain ⟨A1, A3, Ar, Am, Af, L0, L1, L2, L3, L4, L6⟩ := A
  have e : ∀ w, w ≠ 6 → va_up N (zI s 6) v (zI s w) = N (zI s w) := fun w h => by rw [va_ap, if_neg (zI_ne h)]
  unfold hA
  rw [e 1 (by omega), e 3 (by omega), e 4 (by omega), e 7 (by omega), e 8 (by omega), e 9 (by omega), e 10 (by omega), e 11 (by omega), e 5 (by omega)]
  refine ⟨fun t ht => ?_, fun t ht => ?_, Ar, Am, ?_, L0, L1, L2, L3, L4, L6⟩
  · rw [e _ (by omega)]; exact A1 t ht
  · rw [e _ (by omega)]; exact A3 t ht
  · rw [va_ap, if_pos rfl]; rfl
theorem hA_l0 (A : hA q N s) (h12 : nn (N (zI s 1)) ≤ 12) : hA (q.sl (va_up q.l 0 v)) (va_up N (zI s 7) v) s := by
  obtain ⟨A1, A3, Ar, Am, Af, L0, L1, L2, L3, L4, L6⟩ := A
  have e : ∀ w, w ≠ 7 → va_up N (zI s 7) v (zI s w) = N (zI s w) := fun w h => by rw [va_ap, if_neg (zI_ne h)]
  unfold hA
  rw [e 1 (by omega), e 3 (by omega), e 4 (by omega), e 6 (by omega), e 8 (by omega), e 9 (by omega), e 10 (by omega), e 11 (by omega), e 5 (by omega)]
  refine ⟨fun t ht => ?_, fun t ht => ?_, Ar, Am, Af, ?_, L1, L2, L3, L4, L6⟩
  · rw [e _ (by omega)]; exact A1 t ht
  · rw [e _ (by omega)]; exact A3 t ht
  · rw [va_ap, if_pos rfl]; rfl
theorem hA_l1 (A : hA q N s) (h12 : nn (N (zI s 1)) ≤ 12) : hA (q.sl (va_up q.l 1 v)) (va_up N (zI s 8) v) s := by
  obtain ⟨A1, A3, Ar, Am, Af, L0, L1, L2, L3, L4, L6⟩ := A
  have e : ∀ w, w ≠ 8 → va_up N (zI s 8) v (zI s w) = N (zI s w) := fun w h => by rw [va_ap, if_neg (zI_ne h)]
  unfold hA
  rw [e 1 (by omega), e 3 (by omega), e 4 (by omega), e 6 (by omega), e 7 (by omega), e 9 (by omega), e 10 (by omega), e 11 (by omega), e 5 (by omega)]
  refine ⟨fun t ht => ?_, fun t ht => ?_, Ar, Am, Af, L0, ?_, L2, L3, L4, L6⟩
  · rw [e _ (by omega)]; exact A1 t ht
  · rw [e _ (by omega)]; exact A3 t ht
  · rw [va_ap, if_pos rfl]; rfl
theorem hA_l2 (A : hA q N s) (h12 : nn (N (zI s 1)) ≤ 12) : hA (q.sl (va_up q.l 2 v)) (va_up N (zI s 9) v) s := by
  obtain ⟨A1, A3, Ar, Am, Af, L0, L1, L2, L3, L4, L6⟩ := A
  have e : ∀ w, w ≠ 9 → va_up N (zI s 9) v (zI s w) = N (zI s w) := fun w h => by rw [va_ap, if_neg (zI_ne h)]
  unfold hA
  rw [e 1 (by omega), e 3 (by omega), e 4 (by omega), e 6 (by omega), e 7 (by omega), e 8 (by omega), e 10 (by omega), e 11 (by omega), e 5 (by omega)]
  refine ⟨fun t ht => ?_, fun t ht => ?_, Ar, Am, Af, L0, L1, ?_, L3, L4, L6⟩
  · rw [e _ (by omega)]; exact A1 t ht
  · rw [e _ (by omega)]; exact A3 t ht
  · rw [va_ap, if_pos rfl]; rfl
theorem hA_l3 (A : hA q N s) (h12 : nn (N (zI s 1)) ≤ 12) : hA (q.sl (va_up q.l 3 v)) (va_up N (zI s 10) v) s := by
  obtain ⟨A1, A3, Ar, Am, Af, L0, L1, L2, L3, L4, L6⟩ := A
  have e : ∀ w, w ≠ 10 → va_up N (zI s 10) v (zI s w) = N (zI s w) := fun w h => by rw [va_ap, if_neg (zI_ne h)]
  unfold hA
  rw [e 1 (by omega), e 3 (by omega), e 4 (by omega), e 6 (by omega), e 7 (by omega), e 8 (by omega), e 9 (by omega), e 11 (by omega), e 5 (by omega)]
  refine ⟨fun t ht => ?_, fun t ht => ?_, Ar, Am, Af, L0, L1, L2, ?_, L4, L6⟩
  · rw [e _ (by omega)]; exact A1 t ht
  · rw [e _ (by omega)]; exact A3 t ht
  · rw [va_ap, if_pos rfl]; rfl
theorem hA_l4 (A : hA q N s) (h12 : nn (N (zI s 1)) ≤ 12) : hA (q.sl (va_up q.l 4 v)) (va_up N (zI s 11) v) s := by
  obtain ⟨A1, A3, Ar, Am, Af, L0, L1, L2, L3, L4, L6⟩ := A
  have e : ∀ w, w ≠ 11 → va_up N (zI s 11) v (zI s w) = N (zI s w) := fun w h => by rw [va_ap, if_neg (zI_ne h)]
  unfold hA
  rw [e 1 (by omega), e 3 (by omega), e 4 (by omega), e 6 (by omega), e 7 (by omega), e 8 (by omega), e 9 (by omega), e 10 (by omega), e 5 (by omega)]
  refine ⟨fun t ht => ?_, fun t ht => ?_, Ar, Am, Af, L0, L1, L2, L3, ?_, L6⟩
  · rw [e _ (by omega)]; exact A1 t ht
  · rw [e _ (by omega)]; exact A3 t ht
  · rw [va_ap, if_pos rfl]; rfl
theorem hA_l6 (A : hA q N s) (h12 : nn (N (zI s 1)) ≤ 12) : hA (q.sl (va_up q.l 6 v)) (va_up N (zI s 5) v) s := by
  obtain ⟨A1, A3, Ar, Am, Af, L0, L1, L2, L3, L4, L6⟩ := A
  have e : ∀ w, w ≠ 5 → va_up N (zI s 5) v (zI s w) = N (zI s w) := fun w h => by rw [va_ap, if_neg (zI_ne h)]
  unfold hA
  rw [e 1 (by omega), e 3 (by omega), e 4 (by omega), e 6 (by omega), e 7 (by omega), e 8 (by omega), e 9 (by omega), e 10 (by omega), e 11 (by omega)]
  refine ⟨fun t ht => ?_, fun t ht => ?_, Ar, Am, Af, L0, L1, L2, L3, L4, ?_⟩
  · rw [e _ (by omega)]; exact A1 t ht
  · rw [e _ (by omega)]; exact A3 t ht
  · rw [va_ap, if_pos rfl]; rfl
theorem hA_l5 (A : hA q N s) : hA (q.sl (va_up q.l 5 v)) N s := A
theorem hA_sk {u b : Int32} (A : hA q N s) : hA (q.sk u b) N s := A
theorem hA_f3 {j : Nat} (A : hA q N s) (h12 : nn (N (zI s 1)) ≤ 12) : hA (q.s3 (va_up q.f3 j v)) (va_up N (zI s (39 + j)) v) s := by
  obtain ⟨A1, A3, Ar, Am, Af, L0, L1, L2, L3, L4, L6⟩ := A
  have e : ∀ w, w ≠ 39 + j → va_up N (zI s (39 + j)) v (zI s w) = N (zI s w) := fun w h => by rw [va_ap, if_neg (zI_ne h)]
  unfold hA
  rw [e 1 (by omega), e 3 (by omega), e 4 (by omega), e 6 (by omega), e 7 (by omega), e 8 (by omega), e 9 (by omega), e 10 (by omega), e 11 (by omega), e 5 (by omega)]
  refine ⟨fun t ht => ?_, fun t ht => ?_, Ar, Am, Af, L0, L1, L2, L3, L4, L6⟩
  · rw [e _ (by omega)]; exact A1 t ht
  · show va_up q.f3 j v t = _
    rw [va_ap]
    by_cases c : t = j
    · rw [if_pos c, va_ap, if_pos (by rw [c])]
    · rw [if_neg c, e _ (by omega)]; exact A3 t ht
theorem hA_f1 {j : Nat} (hj : j < 13) (A : hA q N s) (h12 : nn (N (zI s 1)) ≤ 12) : hA (q.s1 (va_up q.f1 j v)) (va_up N (zI s (13 + j)) v) s := by
  obtain ⟨A1, A3, Ar, Am, Af, L0, L1, L2, L3, L4, L6⟩ := A
  have e : ∀ w, w ≠ 13 + j → va_up N (zI s (13 + j)) v (zI s w) = N (zI s w) := fun w h => by rw [va_ap, if_neg (zI_ne h)]
  unfold hA
  rw [e 1 (by omega), e 3 (by omega), e 4 (by omega), e 6 (by omega), e 7 (by omega), e 8 (by omega), e 9 (by omega), e 10 (by omega), e 11 (by omega), e 5 (by omega)]
  refine ⟨fun t ht => ?_, fun t ht => ?_, Ar, Am, Af, L0, L1, L2, L3, L4, L6⟩
  · show va_up q.f1 j v t = _
    rw [va_ap]
    by_cases c : t = j
    · rw [if_pos c, va_ap, if_pos (by rw [c])]
    · rw [if_neg c, e _ (by omega)]; exact A1 t ht
  · rw [e _ (by omega)]; exact A3 t ht
/-- marks are lost -/
theorem hA_lose {o : Nat} {b a : Int32} (A : hA q N s) (h12 : nn (N (zI s 1)) ≤ 12) (hb : 0 ≤ b.toInt) (h0 : b = 0 → N (zI s 4) = 0) (ha : b ≠ 0 → a = pTot N s o) : hA (qLose q b a) (pLose N s o b) s := by
  have Am := A.2.2.2.1
  have z0 : (0 : Int32).toInt = 0 := by decide
  unfold qLose pLose
  by_cases c : b = 0
  · rw [if_pos c, if_pos (by rw [c]; decide)]
    have := hA_m (v := 0) A h12
    rwa [show va_up N (zI s 4) 0 = N by
      funext j
      rw [va_ap]
      split
      · rename_i e
        rw [e, h0 c]
      · rfl] at this
  · have hp : ¬ b ≤ 0 := by
      rw [Int32.le_iff_toInt_le]
      intro z
      exact c (Int32.toInt_inj.mp (by omega))
    rw [if_neg c, if_neg hp, Am, ha c]
    exact hA_m A h12
end HY
