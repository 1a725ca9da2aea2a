/-! part 565: a herd is copied, whole -/
def hCg (p n : Nat) (f1 f3 : Nat → Int32) (r m fl : Int32) (lr : Nat) : List xAC := [(true, .inr (19, [.ref p, .ref (n + 1), .ref (n + 5), .int r, .int m, .int fl, .ref lr, .ref (n + 3)])), (true, .inl (1, 13, .inl f1)), (true, .inr (22, [.int 0, .int 0, .int 0, .int 0, .int 0, .int 0, .int 0])), (true, .inr (23, [.ref (n + 4), .int 0, .int 0])), (true, .inl (5, 17, .inr (.inr (.inr (.inr (fun _ => none)))))), (true, .inr (24, [.ref p, .ref (n + 6), .int 0, .int 0])), (true, .inl (1, 13, .inl f3))]
section HC2
variable {Γ : Nat → Option Nat} {h : xH} {n p fe o a : Nat} {Y : Nat → Nat} {N : Nat → Int32} {s : Nat}
theorem k_lCopy {lg : Nat} (H : yO h 22 lg) (hb : xbd n h) : xsel (some lg) [(22, fun z => fX9_copy z)] Γ h n = some (.inl (some n), xupd h n (true, .inr (22, [.int (yi h 22 0 lg), .int (yi h 22 1 lg), .int (yi h 22 2 lg), .int (yi h 22 3 lg), .int (yi h 22 4 lg), .int (yi h 22 5 lg), .int (yi h 22 6 lg)])), 1, 7) := by
  have ln : lg ≠ n := fun z => yO_at H (hb _ (by omega))
  have g : ∀ k fs, (ykn 22)[k]? = some 0 → xgI 22 k (some lg) Γ (xupd h n (true, .inr (22, fs))) (n + 1) = some (.inl (yi h 22 k lg), xupd h n (true, .inr (22, fs)), 0, 0) := fun k fs hk => by
    rw [e_gI ((yO_c (up_ne ln)).mpr H) hk, yi_c (up_ne ln)]
  have p : ∀ k fs v, k < fs.length → xput 22 k (some n) (.int v) Γ (xupd h n (true, .inr (22, fs))) (n + 1) = some (.inl (), xupd h n (true, .inr (22, fs.set k (.int v))), 0, 0) := fun k fs v hk => o1_p hk
  rw [e_sel H]
  unfold fX9_copy fX9_init
  rw [x_bc (show xnew 22 [.int 0, .int 0, .int 0, .int 0, .int 0, .int 0, .int 0] 7 Γ h n = some (.inl n, xupd h n (true, .inr (22, [.int 0, .int 0, .int 0, .int 0, .int 0, .int 0, .int 0])), 1, 7) from rfl), x_b1 (g 0 _ kn22_0)]
  have i0 : (xbind (xput 22 0 (some n) (.int (yi h 22 0 lg))) fun _ => xpure ()) Γ (xupd h n (true, .inr (22, [.int 0, .int 0, .int 0, .int 0, .int 0, .int 0, .int 0]))) (n + 1) = some (.inl (), xupd h n (true, .inr (22, [.int (yi h 22 0 lg), .int 0, .int 0, .int 0, .int 0, .int 0, .int 0])), 0, 0) := by
    rw [x_b1 (p 0 _ _ (by decide))]
    rfl
  rw [x_b1 i0, x_b1 (g 1 _ kn22_1), x_b1 (p 1 _ _ (by simp)), x_b1 (g 2 _ kn22_2), x_b1 (p 2 _ _ (by simp)), x_b1 (g 3 _ kn22_3), x_b1 (p 3 _ _ (by simp)), x_b1 (g 4 _ kn22_4), x_b1 (p 4 _ _ (by simp)), x_b1 (g 5 _ kn22_5), x_b1 (p 5 _ _ (by simp)), x_b1 (g 6 _ kn22_6), x_b1 (p 6 _ _ (by simp))]
  rfl
theorem k_hCopy (H : kHd h Y p N s) (hp : kSpN h p fe N s) (hb : xbd n h) (hfl : N (zI s 6) = Int32.ofNat 0 ∨ N (zI s 6) = Int32.ofNat 1) : ∃ g Y' dc ds, xsel (some (Y 0)) [(19, fun z => fX6_copy z)] Γ h n = some (.inl (some n), g, dc, ds) ∧ dc ≤ 10 ∧ ds ≤ 200 ∧ hsub h g ∧ xbd (n + dc) g ∧ kHd g Y' p N s ∧ Y' 0 = n ∧ (∀ k, k < 7 → n ≤ Y' k) ∧ (∀ j k, j < 7 → k < 7 → Y' j = Y' k → j = k) := by
  have pn : p < n := xbd_lt hb (yO_at hp.1.1)
  have lt := fun k hk => xbd_lt hb (H.at k hk)
  have HM := fun L => H.mono (xX_sub (L := L) hb)
  have h12 := hp.1.2.2.2.2.2.2.1
  obtain ⟨Q, D, S⟩ := H.2.2.2.2.2.2.2.2.2.2.2.2.2.2
  obtain ⟨hd0, cap0, D⟩ := D.dc
  have sv := H.2.2.2.2.2.2.2.2.2.1
  have c1 := yB_cell sv.1 ytk_1 sv.2.1
  have c3 := yB_cell H.stk.2.2.2.1 ytk_1 H.stk.2.2.2.2
  let f0 : Nat → Int32 := fun j => if j < nn (N (zI s 1)) + 1 then Int32.ofNat 500 else 0
  let z0 : Nat → Int32 := fun _ => 0
  let f1 : Nat → Int32 := va_cpy (yli h 1 (Y 1)) f0 0 0 13
  let f3 : Nat → Int32 := va_cpy (yli h 1 (Y 3)) z0 0 0 13
  have nw : xnew 19 [.null, .null, .null, .int 0, .int 0, .int 0, .null, .null] 8 Γ h n = some (.inl n, xX h n [(true, .inr (19, [.null, .null, .null, .int 0, .int 0, .int 0, .null, .null]))], 1, 8) := by
    have := X_new (Γ := Γ) (h := h) (n := n) (m := n) (L := []) (ci := 19) (fs := [.null, .null, .null, .int 0, .int 0, .int 0, .null, .null]) (sz := 8) rfl
    rw [xX_nil hb] at this
    exact this
  have ini : fX6_init n (some p) Γ (xX h n [(true, .inr (19, [.null, .null, .null, .int 0, .int 0, .int 0, .null, .null]))]) (n + 1) = some (.inl (), xX h n (hCg p n f0 z0 0 0 0 (n + 2)), 6, 57) := k_hInit hp.1 pn
  have cp1 : xcpI 1 .int (some (Y 1)) (0 : Int32) (some (n + 1)) (0 : Int32) (13 : Int32) Γ (xX h n (hCg p n f0 z0 0 0 0 (n + 2))) (n + 7) = some (.inl (), xX h n (hCg p n f1 z0 0 0 0 (n + 2)), 0, 0) := X_cpI (i := 1) (M := 13) (lt 1 (by omega)) c1 rfl (by omega)
  have cp3 : xcpI 1 .int (some (Y 3)) (0 : Int32) (some (n + 6)) (0 : Int32) (13 : Int32) Γ (xX h n (hCg p n f1 z0 0 0 0 (n + 2))) (n + 7) = some (.inl (), xX h n (hCg p n f1 f3 0 0 0 (n + 2)), 0, 0) := X_cpI (i := 6) (M := 13) (lt 3 (by omega)) c3 rfl (by omega)
  have g191 : ∀ (f1 f3 : Nat → Int32) (r m fl : Int32) (lr : Nat), xgR 19 1 (some n) Γ (xX h n (hCg p n f1 f3 r m fl lr)) (n + 7) = some (.inl (some (n + 1)), xX h n (hCg p n f1 f3 r m fl lr), 0, 0) := fun f1 f3 r m fl lr => X_gR (i := 0) (v := some (n + 1)) rfl rfl
  have g192 : ∀ (f1 f3 : Nat → Int32) (r m fl : Int32) (lr : Nat), xgR 19 2 (some n) Γ (xX h n (hCg p n f1 f3 r m fl lr)) (n + 7) = some (.inl (some (n + 5)), xX h n (hCg p n f1 f3 r m fl lr), 0, 0) := fun f1 f3 r m fl lr => X_gR (i := 0) (v := some (n + 5)) rfl rfl
  have bec : xsel (some (n + 5)) [(24, fun z => fX10_become z (some (Y 2)))] Γ (xX h n (hCg p n f1 z0 0 0 0 (n + 2))) (n + 7) = some (.inl (), xX h n (hCg p n f1 f3 0 0 0 (n + 2)), 0, 0) := by
    have sl : xsel (some (n + 5)) [(24, fun z => fX10_become z (some (Y 2)))] Γ (xX h n (hCg p n f1 z0 0 0 0 (n + 2))) (n + 7) = fX10_become (n + 5) (some (Y 2)) Γ (xX h n (hCg p n f1 z0 0 0 0 (n + 2))) (n + 7) := X_sel (i := 5) rfl
    have g6 : xgR 24 1 (some (n + 5)) Γ (xX h n (hCg p n f1 z0 0 0 0 (n + 2))) (n + 7) = some (.inl (some (n + 6)), xX h n (hCg p n f1 z0 0 0 0 (n + 2)), 0, 0) := X_gR (i := 5) (v := some (n + 6)) rfl rfl
    rw [sl]
    unfold fX10_become
    rw [x_b1 (kh_co (HM _)), x_b1 g6, x_b1 cp3]
    rfl
  have p3 : ∀ v, xput 19 3 (some n) (.int v) Γ (xX h n (hCg p n f1 f3 0 0 0 (n + 2))) (n + 7) = some (.inl (), xX h n (hCg p n f1 f3 v 0 0 (n + 2)), 0, 0) := fun v => X_putr (i := 0) rfl rfl rfl
  have p4 : ∀ r v, xput 19 4 (some n) (.int v) Γ (xX h n (hCg p n f1 f3 r 0 0 (n + 2))) (n + 7) = some (.inl (), xX h n (hCg p n f1 f3 r v 0 (n + 2)), 0, 0) := fun r v => X_putr (i := 0) rfl rfl rfl
  have p5 : ∀ r m v, (v = Int32.ofNat 0 ∨ v = Int32.ofNat 1) → xpN 19 5 .boolean (some n) v Γ (xX h n (hCg p n f1 f3 r m 0 (n + 2))) (n + 7) = some (.inl (), xX h n (hCg p n f1 f3 r m v (n + 2)), 0, 0) := fun r m v hv => X_pNr (i := 0) rfl rfl rfl (by rcases hv with rfl | rfl <;> exact ⟨rfl, rfl⟩)
  let lv : Nat → Int32 := fun k => yi h 22 k (Y 4)
  have l4 := lt 4 (by omega)
  have lc : ∀ r m fl, xsel (some (Y 4)) [(22, fun z => fX9_copy z)] Γ (xX h n (hCg p n f1 f3 r m fl (n + 2))) (n + 7) = some (.inl (some (n + 7)), xX h n (hCg p n f1 f3 r m fl (n + 2) ++ [(true, .inr (22, [.int (lv 0), .int (lv 1), .int (lv 2), .int (lv 3), .int (lv 4), .int (lv 5), .int (lv 6)]))]), 1, 7) := by
    intro r m fl
    have e := k_lCopy (Γ := Γ) (yO_of _ _ _ (HM (hCg p n f1 f3 r m fl (n + 2))).led.1) (xX_bd (h := h) (n := n) (L := hCg p n f1 f3 r m fl (n + 2)))
    rw [xX_app (show n + (hCg p n f1 f3 r m fl (n + 2)).length = n + (hCg p n f1 f3 r m fl (n + 2)).length from rfl)] at e
    simp only [yi_c (xX_old l4)] at e
    exact e
  have p6 : ∀ r m fl, xput 19 6 (some n) (va_rf (some (n + 7))) Γ (xX h n (hCg p n f1 f3 r m fl (n + 2) ++ [(true, .inr (22, [.int (lv 0), .int (lv 1), .int (lv 2), .int (lv 3), .int (lv 4), .int (lv 5), .int (lv 6)]))])) (n + 7 + 1) = some (.inl (), xX h n (hC1 p n f1 f3 r m fl lv), 0, 0) := fun r m fl => X_putr (i := 0) rfl rfl rfl
  let G0 : xH := xX h n (hC1 p n f1 f3 (N (zI s 3)) (N (zI s 4)) (N (zI s 6)) lv)
  have bG : xbd (n + 8) G0 := xX_bd (h := h) (n := n) (L := hC1 p n f1 f3 (N (zI s 3)) (N (zI s 4)) (N (zI s 6)) lv)
  have old : ∀ a, a < n → G0 a = h a := fun a ha => xX_old ha
  have DG : kDc G0 (Y 5) (Y 6) Q hd0 cap0 := D.mono (xX_sub hb)
  have it := kd_iter (Γ := Γ) DG bG
  have gd3 : G0 (n + 3) = some (true, .inr (23, [.ref (n + 4), .int (Int32.ofNat 0), .int (Int32.ofNat 0)])) := xX_at (i := 3)
  have gd4 : G0 (n + 4) = some (true, .inl (5, 17, .inr (.inr (.inr (.inr (fun _ => none)))))) := xX_at (i := 4)
  have pd0 : pDq (Q.take 0) 0 17 = fun _ => none := by
    funext j
    unfold pDq
    split <;> rfl
  have dvG : kDv G0 (n + 3) (n + 4) 0 ((0 + 0) % 17) 17 (pDq (Q.take 0) 0 17) = G0 := by
    unfold kDv
    rw [pd0, up_id gd3, up_id gd4]
  have gn : G0 n = some (true, .inr (19, [.ref p, .ref (n + 1), .ref (n + 5), .int (N (zI s 3)), .int (N (zI s 4)), .int (N (zI s 6)), .ref (n + 7), .ref (n + 3)])) := xX_at (i := 0)
  obtain ⟨G', e', hd', cap', k', l', c', r1, r2, r3, r4, r5, r6, r7⟩ := k_hCopy81 (Γ := Γ) (G0 := G0) D S hb old (fun g m hg => by
      unfold xgR xget xobj
      simp only [hg, gn]
      rfl) Q.length 0 xFU G0 (n + 4) 0 17 0 (-Int32.ofNat 1) (by omega) (by have := S.2.1; unfold xFU; omega) (Or.inl ⟨rfl, rfl, rfl, by omega⟩) (by omega) (fun _ _ _ _ => rfl) (fun a ha => bG a (by omega)) (bG _ (by omega))
  rw [dvG, Nat.sub_zero, show (hd0 + 0) % cap0 = hd0 from Nat.mod_eq_of_lt D.2.2.2.2.2.1, show n + 9 + 0 = n + 9 from rfl] at r1
  have k1 : k' ≤ 1 := by omega
  have c36 : cap' = 17 ∨ cap' = 36 := by omega
  have den : n + 3 ≠ e' := by omega
  have ql : Q.length < cap' := by have := S.2.1; omega
  let g : xH := kIr (kDv G' (n + 3) e' hd' ((hd' + Q.length) % cap') cap' (pDq Q hd' cap')) (n + 8) (Y 5) c' (Int32.ofNat 0) l'
  let Y' : Nat → Nat := fun k => if k = 0 then n else if k = 1 then n + 1 else if k = 2 then n + 5 else if k = 3 then n + 6 else if k = 4 then n + 7 else if k = 5 then n + 3 else e'
  have gc : ∀ a, a < n + 8 → a ≠ n + 3 → a ≠ n + 4 → g a = G0 a := by
    intro a a1 a2 a3
    show kIr _ _ _ _ _ _ a = _
    unfold kIr
    rw [up_ne (by omega), dv_o a2 (by omega), r5 a a1 a2 a3]
  have go : ∀ a, a < n → g a = h a := fun a ha => (gc a (by omega) (by omega) (by omega)).trans (old a ha)
  have dc : kDc g (n + 3) e' Q hd' cap' := by
    have z := kDv_c (h := kIr G' (n + 8) (Y 5) c' (Int32.ofNat 0) l') den c36 r4 ql
    rw [← ir_dv (by omega) (by omega)] at z
    exact z
  have t0 := gc n (by omega) (by omega) (by omega)
  have t1 := gc (n + 1) (by omega) (by omega) (by omega)
  have t5 := gc (n + 5) (by omega) (by omega) (by omega)
  have t6 := gc (n + 6) (by omega) (by omega) (by omega)
  have t7 := gc (n + 7) (by omega) (by omega) (by omega)
  have hs : hsub h g := fun a ha => go a (xbd_lt hb ha)
  refine ⟨g, Y', 9 + k', 76 + 36 * k', ?_, by omega, by omega, hs, ?_, ?_, rfl, ?_, ?_⟩
  · rw [e_sel (yO_of _ _ _ H.1)]
    unfold fX6_copy
    rw [x_bc nw, x_b1 (kh_0 (HM _)), x_bc ini, show n + 1 + 6 = n + 7 from rfl, x_b1 (kh_1 (HM _)), x_b1 (g191 _ _ _ _ _ _), x_b1 cp1, x_b1 (g192 _ _ _ _ _ _), x_b1 (kh_2 (HM _)), x_b1 bec, x_b1 (kh_3 (HM _)), x_b1 (p3 _), x_b1 (kh_4 (HM _)), x_b1 (p4 _ _), x_b1 (kh_5 (HM _)), x_b1 (p5 _ _ _ hfl), x_b1 (kh_6 (HM _)), x_bc (lc _ _ _), x_b1 (p6 _ _ _), x_b1 (kh_7 (HM _)), x_bc it, show n + 7 + 1 = n + 8 from rfl, show n + 8 + 1 = n + 9 from rfl, r1, Nat.sub_zero]
    show some (_, _, 1 + (6 + (1 + (1 + k'))), 8 + (57 + (7 + (4 + 36 * k')))) = some (_, _, 9 + k', 76 + 36 * k')
    rw [show 1 + (6 + (1 + (1 + k'))) = 9 + k' by omega, show 8 + (57 + (7 + (4 + 36 * k'))) = 76 + 36 * k' by omega]
  · intro a ha
    show kIr _ _ _ _ _ _ a = none
    unfold kIr
    rw [up_ne (by omega), dv_o (by omega) (by omega)]
    exact r6 a (by omega)
  · refine ⟨?_, ?_, ?_, ?_, ?_, ?_, ?_, ?_, ?_, ⟨?_, ?_, fun j hj => ?_⟩, ⟨?_, ?_, ?_, ?_, ?_⟩, fun j hj => ?_, H.2.2.2.2.2.2.2.2.2.2.2.2.1, ⟨?_, ?_, ?_, ?_, ?_, ?_, ?_⟩, Q, dc.q, S.cg (fun r hr => hs _ (yO_at hr))⟩
    · exact (yW_c t0).mpr (X_W (i := 0) rfl rfl)
    · exact (yr_c t0).trans (X_yr (i := 0) (v := some p) rfl rfl)
    · exact (yr_c t0).trans (X_yr (i := 0) (v := some (n + 1)) rfl rfl)
    · exact (yr_c t0).trans (X_yr (i := 0) (v := some (n + 5)) rfl rfl)
    · exact (yi_c t0).trans (X_yi (i := 0) rfl rfl)
    · exact (yi_c t0).trans (X_yi (i := 0) rfl rfl)
    · exact (yi_c t0).trans (X_yi (i := 0) rfl rfl)
    · exact (yr_c t0).trans (X_yr (i := 0) (v := some (n + 7)) rfl rfl)
    · exact (yr_c t0).trans (X_yr (i := 0) (v := some (n + 3)) rfl rfl)
    · exact (yB_c t1).mpr (X_B (i := 1) rfl rfl)
    · exact (yln_c t1).trans (X_yln (i := 1) rfl)
    · have e : yli g 1 (n + 1) = f1 := (yli_c t1).trans (X_yli (i := 1) rfl)
      show yli g 1 (n + 1) j = _
      rw [e]
      show va_cpy _ _ 0 0 13 j = _
      rw [cpy_13 (show j < 13 by omega), sv.2.2 j hj]
    · exact (yW_c t5).mpr (X_W (i := 5) rfl rfl)
    · exact (yr_c t5).trans (X_yr (i := 5) (v := some p) rfl rfl)
    · exact (yr_c t5).trans (X_yr (i := 5) (v := some (n + 6)) rfl rfl)
    · exact (yB_c t6).mpr (X_B (i := 6) rfl rfl)
    · exact (yln_c t6).trans (X_yln (i := 6) rfl)
    · have e : yli g 1 (n + 6) = f3 := (yli_c t6).trans (X_yli (i := 6) rfl)
      show yli g 1 (n + 6) j = _
      rw [e]
      show va_cpy _ _ 0 0 13 j = _
      rw [cpy_13 hj, H.2.2.2.2.2.2.2.2.2.2.2.1 j hj]
    · exact (yW_c t7).mpr (X_W (i := 7) rfl rfl)
    · exact ((yi_c t7).trans (X_yi (i := 7) rfl rfl)).trans H.led.2.1
    · exact ((yi_c t7).trans (X_yi (i := 7) rfl rfl)).trans H.led.2.2.1
    · exact ((yi_c t7).trans (X_yi (i := 7) rfl rfl)).trans H.led.2.2.2.1
    · exact ((yi_c t7).trans (X_yi (i := 7) rfl rfl)).trans H.led.2.2.2.2.1
    · exact ((yi_c t7).trans (X_yi (i := 7) rfl rfl)).trans H.led.2.2.2.2.2.1
    · exact ((yi_c t7).trans (X_yi (i := 7) rfl rfl)).trans H.led.2.2.2.2.2.2
  · intro k hk
    show n ≤ if k = 0 then n else if k = 1 then n + 1 else if k = 2 then n + 5 else if k = 3 then n + 6 else if k = 4 then n + 7 else if k = 5 then n + 3 else e'
    repeat' split
    all_goals omega
  · intro j k hj hk
    show ((if j = 0 then n else if j = 1 then n + 1 else if j = 2 then n + 5 else if j = 3 then n + 6 else if j = 4 then n + 7 else if j = 5 then n + 3 else e') = (if k = 0 then n else if k = 1 then n + 1 else if k = 2 then n + 5 else if k = 3 then n + 6 else if k = 4 then n + 7 else if k = 5 then n + 3 else e')) → j = k
    have he : e' = n + 4 ∨ e' = n + 9 := by omega
    repeat' split
    all_goals omega
end HC2
