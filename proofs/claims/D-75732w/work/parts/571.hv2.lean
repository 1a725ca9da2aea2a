/-! part 571: a herd's numbers are read and set -/
section HW
variable {Γ : Nat → Option Nat} {h : xH} {n p s fe o a : Nat} {Y : Nat → Nat} {N : Nat → Int32} {q : hP} {v : Int32}
theorem hv_s0 {q' : hP} (d : hD Y) (e1 : q'.f1 = q.f1) (e2 : hc2 Y p q' = hc2 Y p q) (e3 : q'.f3 = q.f3) (e4 : hc4 q' = hc4 q) : xupd (hV h Y p q) (Y 0) (hc0 Y p q') = hV h Y p q' := by
  have ne : ∀ j k, j < 5 → k < 5 → j ≠ k → Y j ≠ Y k := fun j k hj hk e z => e (d j k hj hk z)
  refine hv_ext d up_self ?_ ?_ ?_ ?_ (fun x hx => (up_ne (hx 0 (by omega))).trans (hv_o hx))
  · rw [up_ne (ne 1 0 (by omega) (by omega) (by omega)), hv_1 d, e1]
  · rw [up_ne (ne 2 0 (by omega) (by omega) (by omega)), hv_2 d, e2]
  · rw [up_ne (ne 3 0 (by omega) (by omega) (by omega)), hv_3 d, e3]
  · rw [up_ne (ne 4 0 (by omega) (by omega) (by omega)), hv_4, e4]
theorem hv_s1 {q' : hP} (d : hD Y) (e0 : hc0 Y p q' = hc0 Y p q) (e2 : hc2 Y p q' = hc2 Y p q) (e3 : q'.f3 = q.f3) (e4 : hc4 q' = hc4 q) : xupd (hV h Y p q) (Y 1) (true, .inl (1, 13, .inl q'.f1)) = hV h Y p q' := by
  have ne : ∀ j k, j < 5 → k < 5 → j ≠ k → Y j ≠ Y k := fun j k hj hk e z => e (d j k hj hk z)
  refine hv_ext d ?_ up_self ?_ ?_ ?_ (fun x hx => (up_ne (hx 1 (by omega))).trans (hv_o hx))
  · rw [up_ne (ne 0 1 (by omega) (by omega) (by omega)), hv_0 d, e0]
  · rw [up_ne (ne 2 1 (by omega) (by omega) (by omega)), hv_2 d, e2]
  · rw [up_ne (ne 3 1 (by omega) (by omega) (by omega)), hv_3 d, e3]
  · rw [up_ne (ne 4 1 (by omega) (by omega) (by omega)), hv_4, e4]
theorem hv_s3 {q' : hP} (d : hD Y) (e0 : hc0 Y p q' = hc0 Y p q) (e1 : q'.f1 = q.f1) (e2 : hc2 Y p q' = hc2 Y p q) (e4 : hc4 q' = hc4 q) : xupd (hV h Y p q) (Y 3) (true, .inl (1, 13, .inl q'.f3)) = hV h Y p q' := by
  have ne : ∀ j k, j < 5 → k < 5 → j ≠ k → Y j ≠ Y k := fun j k hj hk e z => e (d j k hj hk z)
  refine hv_ext d ?_ ?_ ?_ up_self ?_ (fun x hx => (up_ne (hx 3 (by omega))).trans (hv_o hx))
  · rw [up_ne (ne 0 3 (by omega) (by omega) (by omega)), hv_0 d, e0]
  · rw [up_ne (ne 1 3 (by omega) (by omega) (by omega)), hv_1 d, e1]
  · rw [up_ne (ne 2 3 (by omega) (by omega) (by omega)), hv_2 d, e2]
  · rw [up_ne (ne 4 3 (by omega) (by omega) (by omega)), hv_4, e4]
theorem hv_s4 {q' : hP} (d : hD Y) (e0 : hc0 Y p q' = hc0 Y p q) (e1 : q'.f1 = q.f1) (e2 : hc2 Y p q' = hc2 Y p q) (e3 : q'.f3 = q.f3) : xupd (hV h Y p q) (Y 4) (hc4 q') = hV h Y p q' := by
  have ne : ∀ j k, j < 5 → k < 5 → j ≠ k → Y j ≠ Y k := fun j k hj hk e z => e (d j k hj hk z)
  refine hv_ext d ?_ ?_ ?_ ?_ up_self (fun x hx => (up_ne (hx 4 (by omega))).trans (hv_o hx))
  · rw [up_ne (ne 0 4 (by omega) (by omega) (by omega)), hv_0 d, e0]
  · rw [up_ne (ne 1 4 (by omega) (by omega) (by omega)), hv_1 d, e1]
  · rw [up_ne (ne 2 4 (by omega) (by omega) (by omega)), hv_2 d, e2]
  · rw [up_ne (ne 3 4 (by omega) (by omega) (by omega)), hv_3 d, e3]
theorem hv_o0 (d : hD Y) : xobj (hV h Y p q) (some (Y 0)) = some (Y 0, 19, [.ref p, .ref (Y 1), .ref (Y 2), .int q.r, .int q.m, .int q.fl, .ref (Y 4), .ref (Y 5)]) := by unfold xobj; simp only [hv_0 d, hc0]
theorem hv_o2 (d : hD Y) : xobj (hV h Y p q) (some (Y 2)) = some (Y 2, 24, [.ref p, .ref (Y 3), .int q.u, .int q.b]) := by unfold xobj; simp only [hv_2 d, hc2]
theorem hv_o4 : xobj (hV h Y p q) (some (Y 4)) = some (Y 4, 22, [.int (q.l 0), .int (q.l 1), .int (q.l 2), .int (q.l 3), .int (q.l 4), .int (q.l 5), .int (q.l 6)]) := by unfold xobj; simp only [hv_4, hc4]
theorem hv_sel (d : hD Y) {α : Type} {g : Nat → xM α} : xsel (some (Y 0)) [(19, g)] Γ (hV h Y p q) n = g (Y 0) Γ (hV h Y p q) n := by unfold xsel; rw [hv_o0 d]; rfl
theorem hv_sel2 (d : hD Y) {α : Type} {g : Nat → xM α} : xsel (some (Y 2)) [(24, g)] Γ (hV h Y p q) n = g (Y 2) Γ (hV h Y p q) n := by unfold xsel; rw [hv_o2 d]; rfl
theorem hv_g0 (d : hD Y) : xgR 19 0 (some (Y 0)) Γ (hV h Y p q) n = some (.inl (some p), hV h Y p q, 0, 0) := by unfold xgR xget; rw [hv_o0 d]; rfl
theorem hv_g1 (d : hD Y) : xgR 19 1 (some (Y 0)) Γ (hV h Y p q) n = some (.inl (some (Y 1)), hV h Y p q, 0, 0) := by unfold xgR xget; rw [hv_o0 d]; rfl
theorem hv_g2 (d : hD Y) : xgR 19 2 (some (Y 0)) Γ (hV h Y p q) n = some (.inl (some (Y 2)), hV h Y p q, 0, 0) := by unfold xgR xget; rw [hv_o0 d]; rfl
theorem hv_g3 (d : hD Y) : xgI 19 3 (some (Y 0)) Γ (hV h Y p q) n = some (.inl q.r, hV h Y p q, 0, 0) := by unfold xgI xget; rw [hv_o0 d]; rfl
theorem hv_g4 (d : hD Y) : xgI 19 4 (some (Y 0)) Γ (hV h Y p q) n = some (.inl q.m, hV h Y p q, 0, 0) := by unfold xgI xget; rw [hv_o0 d]; rfl
theorem hv_g5 (d : hD Y) : xgI 19 5 (some (Y 0)) Γ (hV h Y p q) n = some (.inl q.fl, hV h Y p q, 0, 0) := by unfold xgI xget; rw [hv_o0 d]; rfl
theorem hv_g6 (d : hD Y) : xgR 19 6 (some (Y 0)) Γ (hV h Y p q) n = some (.inl (some (Y 4)), hV h Y p q, 0, 0) := by unfold xgR xget; rw [hv_o0 d]; rfl
theorem hv_g7 (d : hD Y) : xgR 19 7 (some (Y 0)) Γ (hV h Y p q) n = some (.inl (some (Y 5)), hV h Y p q, 0, 0) := by unfold xgR xget; rw [hv_o0 d]; rfl
theorem hv_k1 (d : hD Y) : xgR 24 1 (some (Y 2)) Γ (hV h Y p q) n = some (.inl (some (Y 3)), hV h Y p q, 0, 0) := by unfold xgR xget; rw [hv_o2 d]; rfl
theorem hv_k2 (d : hD Y) : xgI 24 2 (some (Y 2)) Γ (hV h Y p q) n = some (.inl q.u, hV h Y p q, 0, 0) := by unfold xgI xget; rw [hv_o2 d]; rfl
theorem hv_k3 (d : hD Y) : xgI 24 3 (some (Y 2)) Γ (hV h Y p q) n = some (.inl q.b, hV h Y p q, 0, 0) := by unfold xgI xget; rw [hv_o2 d]; rfl
theorem hv_l {k : Nat} (hk : k < 7) : xgI 22 k (some (Y 4)) Γ (hV h Y p q) n = some (.inl (q.l k), hV h Y p q, 0, 0) := by
  unfold xgI xget
  rw [hv_o4]
  rcases (show k = 0 ∨ k = 1 ∨ k = 2 ∨ k = 3 ∨ k = 4 ∨ k = 5 ∨ k = 6 by omega) with rfl | rfl | rfl | rfl | rfl | rfl | rfl <;> rfl
theorem hv_p3 (d : hD Y) : xput 19 3 (some (Y 0)) (.int v) Γ (hV h Y p q) n = some (.inl (), hV h Y p (q.sr v), 0, 0) := by
  unfold xput
  simp only [hv_0 d, hc0]
  rw [if_pos ⟨trivial, by simp⟩, ← hv_s0 (q := q) (q' := (q.sr v)) d rfl rfl rfl rfl]
  rfl
theorem hv_p4 (d : hD Y) : xput 19 4 (some (Y 0)) (.int v) Γ (hV h Y p q) n = some (.inl (), hV h Y p (q.sm v), 0, 0) := by
  unfold xput
  simp only [hv_0 d, hc0]
  rw [if_pos ⟨trivial, by simp⟩, ← hv_s0 (q := q) (q' := (q.sm v)) d rfl rfl rfl rfl]
  rfl
theorem hv_p5 (d : hD Y) (hv : v = Int32.ofNat 0 ∨ v = Int32.ofNat 1) : xpN 19 5 .boolean (some (Y 0)) v Γ (hV h Y p q) n = some (.inl (), hV h Y p (q.sf v), 0, 0) := by
  unfold xpN
  rw [if_pos (by rcases hv with rfl | rfl <;> exact ⟨rfl, rfl⟩)]
  unfold xput
  simp only [hv_0 d, hc0]
  rw [if_pos ⟨trivial, by simp⟩, ← hv_s0 (q := q) (q' := (q.sf v)) d rfl rfl rfl rfl]
  rfl
theorem hv_pl {k : Nat} (d : hD Y) (hk : k < 7) : xput 22 k (some (Y 4)) (.int v) Γ (hV h Y p q) n = some (.inl (), hV h Y p (q.sl (va_up q.l k v)), 0, 0) := by
  unfold xput
  simp only [hv_4, hc4]
  rw [if_pos ⟨trivial, by simpa using hk⟩, ← hv_s4 (q := q) (q' := (q.sl (va_up q.l k v))) d rfl rfl rfl rfl]
  rcases (show k = 0 ∨ k = 1 ∨ k = 2 ∨ k = 3 ∨ k = 4 ∨ k = 5 ∨ k = 6 by omega) with rfl | rfl | rfl | rfl | rfl | rfl | rfl <;> rfl
theorem hv_ld3 {j : Nat} (d : hD Y) (hj : j < 13) : xldI 1 (some (Y 3)) (Int32.ofNat j) Γ (hV h Y p q) n = some (.inl (q.f3 j), hV h Y p q, 0, 0) := by
  have h1 : j < 2147483648 := by omega
  unfold xldI xarr
  simp only [hv_3 d]
  rw [if_pos ⟨trivial, by rw [i_nat h1]; rintro (z | z); exact i_nonneg h1 z; omega⟩, i_nat h1]
theorem hv_st3 {j : Nat} (d : hD Y) (hj : j < 13) : xstI 1 (some (Y 3)) (Int32.ofNat j) v Γ (hV h Y p q) n = some (.inl (), hV h Y p (q.s3 (va_up q.f3 j v)), 0, 0) := by
  have h1 : j < 2147483648 := by omega
  unfold xstI
  simp only [hv_3 d]
  rw [if_pos ⟨trivial, by rw [i_nat h1]; rintro (z | z); exact i_nonneg h1 z; omega⟩, i_nat h1, ← hv_s3 (q := q) (q' := (q.s3 (va_up q.f3 j v))) d rfl rfl rfl rfl]
  rfl
theorem hv_st1 {j : Nat} (d : hD Y) (hj : j < 13) : xstI 1 (some (Y 1)) (Int32.ofNat j) v Γ (hV h Y p q) n = some (.inl (), hV h Y p (q.s1 (va_up q.f1 j v)), 0, 0) := by
  have h1 : j < 2147483648 := by omega
  unfold xstI
  simp only [hv_1 d]
  rw [if_pos ⟨trivial, by rw [i_nat h1]; rintro (z | z); exact i_nonneg h1 z; omega⟩, i_nat h1, ← hv_s1 (q := q) (q' := (q.s1 (va_up q.f1 j v))) d rfl rfl rfl rfl]
  rfl
theorem hv_kSt (d : hD Y) : kSt (hV h Y p q) (Y 2) (Y 3) p := by
  have e2 := hv_2 (h := h) (p := p) (q := q) d
  have e3 := hv_3 (h := h) (p := p) (q := q) d
  refine ⟨?_, ?_, ?_, ⟨13, ?_⟩, ?_⟩
  · unfold yW yhd; rw [e2]; rfl
  · unfold yr yv; rw [e2]; rfl
  · unfold yr yv; rw [e2]; rfl
  · unfold yhd; rw [e3]; rfl
  · unfold yln yhd; rw [e3]; rfl
theorem hv_f3 (d : hD Y) : yli (hV h Y p q) 1 (Y 3) = q.f3 := by unfold yli yc; rw [hv_3 d]; rfl
theorem hv_tot (d : hD Y) : xsel (some (Y 2)) [(24, fun z => fX10_total z)] Γ (hV h Y p q) n = some (.inl (isum q.f3 0 13), hV h Y p q, 0, 0) := by
  rw [hv_sel2 d, k_total (hv_kSt d), hv_f3 d]
/-- the total as the twin sees it -/
theorem hA_tot (A : hA q N s) (h12 : nn (N (zI s 1)) ≤ 12) (z : ∀ j, j < 13 → nn (N (zI s 1)) < j → N (zI s (39 + j)) = Int32.ofNat 0) : isum q.f3 0 13 = pTot N s (nn (N (zI s 1))) := by
  rw [show 13 = (nn (N (zI s 1)) + 1) + (12 - nn (N (zI s 1))) by omega, isum_app, isum_congr (f := q.f3) (g := fun x => N (zI s (39 + x))) _ _ (fun j _ hj => A.2.1 j (by omega)), isum_zero (12 - nn (N (zI s 1))) _ (fun j h1 h2 => by rw [A.2.1 j (by omega)]; exact z j (by omega) (by omega)), i_add0]
  rfl
def qLose (q : hP) (before after : Int32) : hP := q.sm (if before = 0 then 0 else ((q.m.toInt64 * after.toInt64) / before.toInt64).toInt32)
theorem hv_lose (d : hD Y) (x y : Int32) : xsel (some (Y 0)) [(19, fun z => fX6_lose z x y)] Γ (hV h Y p q) n = some (.inl (), hV h Y p (qLose q x y), 0, 0) := by
  rw [hv_sel d]
  unfold fX6_lose qLose
  by_cases c : x = 0
  · rw [if_pos c, if_pos c]
    unfold fX6_lose_p21
    rw [x_b1 (hv_p4 d)]
    rfl
  · rw [if_neg c, if_neg c, x_b1 (hv_g4 d)]
    unfold xdvJ
    rw [if_neg (fun z => c (i_64z.mp z))]
    unfold fX6_lose_p21
    rw [x_b1 (hv_p4 d)]
    rfl
theorem hv_coh {j : Nat} (d : hD Y) (hj : j < 13) : xsel (some (Y 0)) [(19, fun z => fX6_cohort z (Int32.ofNat j))] Γ (hV h Y p q) n = some (.inl (q.f3 j), hV h Y p q, 0, 0) := by
  rw [hv_sel d]
  unfold fX6_cohort
  rw [x_b1 (hv_g2 d), x_b1 (hv_k1 d), x_b1 (hv_ld3 d hj)]
  rfl
theorem hv_left (d : hD Y) : xsel (some (Y 0)) [(19, fun z => fX6_left z)] Γ (hV h Y p q) n = some (.inl (imax (Int32.ofNat 0) (q.l 6 - q.l 3)), hV h Y p q, 0, 0) := by
  have i0 : (0 : Int32) = Int32.ofNat 0 := rfl
  rw [hv_sel d]
  unfold fX6_left
  rw [x_b1 (hv_g6 d), x_b1 (hv_l (by omega)), x_b1 (hv_g6 d), x_b1 (hv_l (by omega)), i0, x_b1 (i_ix _ _ _ _ _)]
  rfl
def qAdd (q : hP) (j : Nat) (v : Int32) : hP := (q.s3 (va_up q.f3 j (q.f3 j + v))).sl (va_up q.l 4 (q.l 4 + v))
theorem hv_add {j : Nat} (d : hD Y) (hj : j < 13) : xsel (some (Y 0)) [(19, fun z => fX6_add z (Int32.ofNat j) v)] Γ (hV h Y p q) n = some (.inl (), hV h Y p (qAdd q j v), 0, 0) := by
  rw [hv_sel d]
  unfold fX6_add
  rw [x_b1 (hv_g2 d), x_b1 (hv_k1 d), x_b1 (hv_ld3 d hj), x_b1 (hv_st3 d hj), x_b1 (hv_g6 d), x_b1 (hv_l (by omega)), x_b1 (hv_pl d (by omega))]
  rfl
def qTake (q : hP) (j : Nat) (v : Int32) : hP := qLose ((q.s3 (va_up q.f3 j (q.f3 j - v))).sl (va_up q.l 3 (q.l 3 + v))) (isum q.f3 0 13) (isum q.f3 0 13 - v)
theorem hv_take {j : Nat} (d : hD Y) (hj : j < 13) : xsel (some (Y 0)) [(19, fun z => fX6_take z (Int32.ofNat j) v)] Γ (hV h Y p q) n = some (.inl (), hV h Y p (qTake q j v), 0, 0) := by
  rw [hv_sel d]
  unfold fX6_take
  rw [x_b1 (hv_g2 d), x_b1 (hv_tot d), x_b1 (hv_g2 d), x_b1 (hv_k1 d), x_b1 (hv_ld3 d hj), x_b1 (hv_st3 d hj), x_b1 (hv_g6 d), x_b1 (hv_l (by omega)), x_b1 (hv_pl d (by omega)), x_b1 (hv_lose d _ _)]
  rfl
/-- illness from age x on, k ages -/
def qSick (th : Int32) : Nat → Nat → hP → Int32 → hP × Int32
  | _, 0, q, c => (q, c)
  | x, k + 1, q, c => qSick th (x + 1) k (q.s3 (va_up q.f3 x (q.f3 x - pGone (q.f3 x) th))) (c + pGone (q.f3 x) th)
end HW
