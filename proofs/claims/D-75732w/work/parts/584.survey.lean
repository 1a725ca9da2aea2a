/-! part 584: a survey -/
theorem pS4_lo {N : Nat → Int32} {s j : Nat} (h : j < zI s 56 ∨ zI s 131 < j) : pS4 N s 3 j = N j := by
  unfold pS4
  rw [if_neg (by unfold zI at *; omega)]
theorem pSv_ne {N : Nat → Int32} {s j : Nat} {a b c : Int32} (h12 : j ≠ zI s 12) (h : j < zI s 52 ∨ zI s 131 < j) : pSurvey N s a b c j = N j := by
  unfold pSurvey pSv0
  rw [va_ap, if_neg (by unfold zI at *; omega), va_ap, if_neg (by unfold zI at *; omega), va_ap, if_neg (by unfold zI at *; omega), va_ap, if_neg (by unfold zI at *; omega), pS4_lo (by unfold zI at *; omega)]
  split
  · rfl
  · rw [va_ap, if_neg h12]
theorem pSv_12 {N : Nat → Int32} {s : Nat} {a b c : Int32} : pSurvey N s a b c (zI s 12) = if Int32.ofNat 20 ≤ N (zI s 12) then N (zI s 12) else N (zI s 12) + Int32.ofNat 1 := by
  unfold pSurvey pSv0
  rw [va_ap, if_neg (zI_ne (by omega)), va_ap, if_neg (zI_ne (by omega)), va_ap, if_neg (zI_ne (by omega)), va_ap, if_neg (zI_ne (by omega)), pS4_lo (by unfold zI; omega)]
  split
  · rfl
  · rw [va_ap, if_pos rfl]
theorem pSv_0 {N : Nat → Int32} {s w : Nat} {a b c : Int32} (hw : w < 4) : pSurvey N s a b c (zI s (52 + w)) = if w = 0 then N 1 else if w = 1 then a else if w = 2 then b else c := by
  unfold pSurvey pSv0
  have h1 : pS4 (if Int32.ofNat 20 ≤ N (zI s 12) then N else va_up N (zI s 12) (N (zI s 12) + Int32.ofNat 1)) s 3 1 = N 1 := by
    rw [pS4_lo (by unfold zI; omega)]
    split
    · rfl
    · rw [va_ap, if_neg (by unfold zI; omega)]
  rw [h1]
  rcases (show w = 0 ∨ w = 1 ∨ w = 2 ∨ w = 3 by omega) with rfl | rfl | rfl | rfl
  · rw [va_ap, if_neg (zI_ne (by omega)), va_ap, if_neg (zI_ne (by omega)), va_ap, if_neg (zI_ne (by omega)), va_ap, if_pos rfl, if_pos rfl]
  · rw [va_ap, if_neg (zI_ne (by omega)), va_ap, if_neg (zI_ne (by omega)), va_ap, if_pos rfl, if_neg (by omega), if_pos rfl]
  · rw [va_ap, if_neg (zI_ne (by omega)), va_ap, if_pos rfl, if_neg (by omega), if_neg (by omega), if_pos rfl]
  · rw [va_ap, if_pos rfl, if_neg (by omega), if_neg (by omega), if_neg (by omega)]
theorem pSv_s {N : Nat → Int32} {s i w : Nat} {a b c : Int32} (hi : i < 19) (hw : w < 4) : pSurvey N s a b c (zI s (52 + 4 * (i + 1) + w)) = N (zI s (52 + 4 * i + w)) := by
  unfold pSurvey pSv0
  rw [va_ap, if_neg (zI_ne (by omega)), va_ap, if_neg (zI_ne (by omega)), va_ap, if_neg (zI_ne (by omega)), va_ap, if_neg (zI_ne (by omega))]
  unfold pS4
  rw [if_pos (by unfold zI; omega), show zI s (52 + 4 * (i + 1) + w) - 4 = zI s (52 + 4 * i + w) by unfold zI; omega]
  split
  · rfl
  · rw [va_ap, if_neg (zI_ne (by omega))]
section SU
variable {Γ : Nat → Option Nat} {g : xH} {m x st h0 d e : Nat} {v r yy mk : Int32}
/-- a new sighting is put ahead of the others -/
theorem k_sv99 {Q : List Nat} {hd cap : Nat} (hb : xbd m g) (oX : yO g 0 x) (x4 : yr g 0 4 x = some st) (oS : yO g 1 st) (yS : yi g 1 2 st = yy) (oH : yO g 19 h0) (h4 : yi g 19 4 h0 = mk) (h7 : yr g 19 7 h0 = some d) (Dc : kDc g d e Q hd cap) (q19 : Q.length ≤ 19) (hQ : ∀ y, y ∈ Q → yO g 37 y) (hr : ¬ r.toInt64 + (1 : Int64) = 0) :
    ∃ g' e' hd' cap' dc ds, fX1_survey_p99 x v r (some h0) Γ g m = some (.inl (((((mk).toInt64 + (1 : Int64)) * (v.toInt64 + (1 : Int64))) / (r.toInt64 + (1 : Int64))) - (1 : Int64)), g', dc, ds) ∧ dc ≤ 2 ∧ ds ≤ 40 ∧ xbd (m + dc) g' ∧ kDc g' (d) e' (m :: Q) hd' cap' ∧ (e' = e ∨ e' = m + 1 ∧ dc = 2) ∧ 1 ≤ dc ∧ (∀ q, g q ≠ none → q ≠ d → q ≠ e → g' q = g q) ∧ yO g' 37 m ∧ yi g' 37 0 m = yy ∧ yi g' 37 1 m = mk ∧ yi g' 37 2 m = v ∧ yi g' 37 3 m = r := by
  let h1 : xH := xupd g m (true, .inr (37, [.int (yy), .int (mk), .int v, .int r]))
  have sub : ∀ fs, hsub g (xupd g m (true, .inr (37, fs))) := fun fs => hsub_up (hb m (by omega))
  have g4 : ∀ fs, xgR 0 4 (some x) Γ (xupd g m (true, .inr (37, fs))) (m + 1) = some (.inl (some (st)), xupd g m (true, .inr (37, fs)), 0, 0) := fun fs => by
    rw [e_gR (hO oX (sub fs)) kn0_4, yr_c (sub fs _ (yO_at oX)), x4]
  have gy : ∀ fs, xgI 1 2 (some (st)) Γ (xupd g m (true, .inr (37, fs))) (m + 1) = some (.inl (yy), xupd g m (true, .inr (37, fs)), 0, 0) := fun fs => by
    rw [e_gI (hO oS (sub fs)) kn1_2, yi_c (sub fs _ (yO_at oS)), yS]
  have ini : fX17_init m (yy) (mk) v r Γ (xupd g m (true, .inr (37, [.int 0, .int 0, .int 0, .int 0]))) (m + 1) = some (.inl (), h1, 0, 0) := by
    unfold fX17_init
    rw [x_b1 (show xput 37 0 (some m) (.int (yy)) Γ (xupd g m (true, .inr (37, [.int 0, .int 0, .int 0, .int 0]))) (m + 1) = some (.inl (), xupd g m (true, .inr (37, [.int (yy), .int 0, .int 0, .int 0])), 0, 0) from o1_p (by simp)), x_b1 (show xput 37 1 (some m) (.int (mk)) Γ (xupd g m (true, .inr (37, [.int (yy), .int 0, .int 0, .int 0]))) (m + 1) = some (.inl (), xupd g m (true, .inr (37, [.int (yy), .int (mk), .int 0, .int 0])), 0, 0) from o1_p (by simp)), x_b1 (show xput 37 2 (some m) (.int v) Γ (xupd g m (true, .inr (37, [.int (yy), .int (mk), .int 0, .int 0]))) (m + 1) = some (.inl (), xupd g m (true, .inr (37, [.int (yy), .int (mk), .int v, .int 0])), 0, 0) from o1_p (by simp)), x_b1 (show xput 37 3 (some m) (.int r) Γ (xupd g m (true, .inr (37, [.int (yy), .int (mk), .int v, .int 0]))) (m + 1) = some (.inl (), h1, 0, 0) from o1_p (by simp))]
    rfl
  have s1 : hsub g h1 := sub _
  have b1 : xbd (m + 1) h1 := xbd_up1 hb
  have D1 := Dc.mono s1
  obtain ⟨eh, ef, ne⟩ := D1.dv
  have y1 : yO h1 37 m := ⟨true, by unfold yhd; rw [show h1 m = some (true, .inr (37, [.int (yy), .int (mk), .int v, .int r])) from up_self]; rfl⟩
  have hc := D1.2.2.2.2.1
  have hh := D1.2.2.2.2.2.1
  have hlq := D1.2.2.2.2.2.2.1
  have l5 := xbd_lt hb (yO_at (yO_of _ _ _ Dc.1))
  have l6 := xbd_lt hb (yA_at (yA_of _ _ _ Dc.2.2.1))
  have allQ : ∀ y, y ∈ m :: Q → yO h1 37 y ∧ y ≠ d ∧ y ≠ e ∧ y ≠ m + 1 := by
    intro y hy
    rcases List.mem_cons.mp hy with z | z
    · rw [z]
      exact ⟨y1, by omega, by omega, by omega⟩
    · have o := hO (hQ y z) s1
      have := xbd_lt hb (yO_at (hQ y z))
      exact ⟨o, yO_ne o (yO_of _ _ _ D1.1) (by omega), yOA_ne o (yA_of _ _ _ D1.2.2.1), by omega⟩
  have g194 : ∀ fs, xgI 19 4 (some h0) Γ (xupd g m (true, .inr (37, fs))) (m + 1) = some (.inl mk, xupd g m (true, .inr (37, fs)), 0, 0) := fun fs => by
    rw [e_gI (hO oH (sub fs)) kn19_4, yi_c (sub fs _ (yO_at oH)), h4]
  have g197 : xgR 19 7 (some h0) Γ h1 (m + 1) = some (.inl (some d), h1, 0, 0) := by
    rw [e_gR (hO oH s1) kn19_7, yr_c (s1 _ (yO_at oH)), h7]
  have fin : ∀ (g' : xH) (k : Nat), (∀ q, h1 q ≠ none → q ≠ d → q ≠ e → g' q = h1 q) → yO g' 37 m ∧ yi g' 37 0 m = yy ∧ yi g' 37 1 m = mk ∧ yi g' 37 2 m = v ∧ yi g' 37 3 m = r ∧ xsel (some m) [(37, fun z => fX17_estimate z)] Γ g' k = some (.inl (((((mk).toInt64 + (1 : Int64)) * (v.toInt64 + (1 : Int64))) / (r.toInt64 + (1 : Int64))) - (1 : Int64)), g', 0, 0) := by
    intro g' k hg
    have em : g' m = some (true, .inr (37, [.int (yy), .int (mk), .int v, .int r])) := (hg m (yO_at y1) (by omega) (by omega)).trans up_self
    have o : yO g' 37 m := ⟨true, by unfold yhd; rw [em]; rfl⟩
    have i0 : yi g' 37 0 m = yy := by unfold yi yv; rw [em]; rfl
    have i1 : yi g' 37 1 m = mk := by unfold yi yv; rw [em]; rfl
    have i2 : yi g' 37 2 m = v := by unfold yi yv; rw [em]; rfl
    have i3 : yi g' 37 3 m = r := by unfold yi yv; rw [em]; rfl
    refine ⟨o, i0, i1, i2, i3, ?_⟩
    have q1 := e_gI (Γ := Γ) (n := k) o kn37_1
    have q2 := e_gI (Γ := Γ) (n := k) o kn37_2
    have q3 := e_gI (Γ := Γ) (n := k) o kn37_3
    rw [i1] at q1
    rw [i2] at q2
    rw [i3] at q3
    rw [e_sel o]
    unfold fX17_estimate
    rw [x_b1 q1, x_b1 q2, x_b1 q3]
    unfold xdvJ
    rw [if_neg hr]
    rfl
  have start : ∀ res, (xbind (xsel (some (d)) [(23, fun z => fJ27_addFirst z (some m))]) fun _ => xbind (xsel (some m) [(37, fun z => fX17_estimate z)]) fun v134 => xpure v134) Γ h1 (m + 1) = res → fX1_survey_p99 x v r (some h0) Γ g m = xadd 1 4 res := by
    intro res hres
    unfold fX1_survey_p99
    rw [x_bc (show xnew 37 [.int 0, .int 0, .int 0, .int 0] 4 Γ g m = some (.inl m, xupd g m (true, .inr (37, [.int 0, .int 0, .int 0, .int 0])), 1, 4) from rfl), x_b1 (g4 _), x_b1 (gy _), x_b1 (g194 _), x_b1 ini, x_b1 g197, hres]
  by_cases full : cap = 17 ∧ Q.length = 16
  · obtain ⟨c17, l16⟩ := full
    subst c17
    obtain ⟨hd', f', q1, q2⟩ := k_first2 (Γ := Γ) (n := m + 1) (h := h1) (v := m) ne (by omega) (by omega) hh l16 ef (fun y hy => ⟨37, (allQ y hy).1, rfl, (allQ y hy).2.1, (allQ y hy).2.2.1, (allQ y hy).2.2.2⟩)
    rw [← eh] at q2
    have fr : ∀ q, h1 q ≠ none → q ≠ d → q ≠ e → kDv (xupd h1 (e) (true, .inl (5, 17, .inr (.inr (.inr (.inr f')))))) (d) (m + 1) hd' ((hd' + (m :: Q).length) % 36) 36 (pDq (m :: Q) hd' 36) q = h1 q := fun q hq a1 a2 => by
      have := xbd_lt b1 hq
      rw [dv_o a1 (by omega), up_ne a2]
    obtain ⟨w1, w2, w3, w4, w5, w6⟩ := fin _ (m + 1 + 1) fr
    refine ⟨_, m + 1, hd', 36, 2, 40, ?_, by omega, by omega, ?_, kDv_c (by omega) (Or.inr rfl) q1 (by simp only [List.length_cons]; omega), Or.inr ⟨rfl, rfl⟩, by omega, fun q hq a1 a2 => (fr q (by rw [s1 q hq]; exact hq) a1 a2).trans (s1 q hq), w1, w2, w3, w4, w5⟩
    · rw [start _ rfl, x_bc q2, x_b1 w6]
      rfl
    · intro q hq
      rw [dv_o (by omega) (by omega), up_ne (by omega)]
      exact b1 q (by omega)
  · obtain ⟨hd', f', q1, q2, q3⟩ := k_first1 (Γ := Γ) (n := m + 1) (h := h1) (v := m) ne hc hh (by omega) ef (fun hd tl f => k_okR ((yO_c (dv_o (allQ m (by simp)).2.1 (allQ m (by simp)).2.2.1)).mpr y1) rfl)
    rw [← eh] at q2
    have fr : ∀ q, h1 q ≠ none → q ≠ d → q ≠ e → kDv h1 (d) (e) hd' ((hd' + (m :: Q).length) % cap) cap f' q = h1 q := fun q hq a1 a2 => dv_o a1 a2
    obtain ⟨w1, w2, w3, w4, w5, w6⟩ := fin _ (m + 1) fr
    refine ⟨_, e, hd', cap, 1, 4, ?_, by omega, by omega, ?_, dv_c (g := f') ne hc q1 (by simp only [List.length_cons]; omega) q3, Or.inl rfl, by omega, fun q hq a1 a2 => (fr q (by rw [s1 q hq]; exact hq) a1 a2).trans (s1 q hq), w1, w2, w3, w4, w5⟩
    · rw [start _ rfl, x_b1 q2, x_b1 w6]
      rfl
    · intro q hq
      rw [dv_o (by omega) (by omega)]
      exact b1 q (by omega)
end SU
