/-! part 590: a plan is made -/
def kKc (Γ : Nat → Option Nat) (h : xH) : Prop := ∀ k, k < 3 → ∃ c, Γ (10 + k) = some c ∧ kKd h c (Int32.ofNat k)
section PN
variable {Γ : Nat → Option Nat} {h g g' : xH} {n m m' x hi dep : Nat} {Dh P FE mx : Nat → Nat} {a D T B M : Nat → Nat → Nat} {E : Nat → Nat → Nat → Nat} {Nn : Nat → Nat → Int32}
theorem kKc.sub (K : kKc Γ h) (s : hsub h g) : kKc Γ g := fun k hk => by
  obtain ⟨c, c1, c2⟩ := K k hk
  exact ⟨c, c1, c2.cg (by obtain ⟨j, j1, j2, j3, j4⟩ := c2; exact s _ (yO_at j3))⟩
theorem k_kindOf {k : Nat} (hk : k < 3) : fX1_kindOf (Int32.ofNat k) Γ g m = some (.inl (Γ (10 + k)), g, 0, 0) := by
  unfold fX1_kindOf
  rcases (show k = 0 ∨ k = 1 ∨ k = 2 by omega) with rfl | rfl | rfl
  · rw [if_pos (by decide), x_b1 (show xcon 10 Γ g m = some (.inl (Γ 10), g, 0, 0) from rfl)]; rfl
  · rw [if_neg (by decide), if_pos (by decide), x_b1 (show xcon 11 Γ g m = some (.inl (Γ 11), g, 0, 0) from rfl)]; rfl
  · rw [if_neg (by decide), if_neg (by decide), x_b1 (show xcon 12 Γ g m = some (.inl (Γ 12), g, 0, 0) from rfl)]; rfl
theorem kRec.mono (R : kRec n m g x hi dep Dh a E P FE Nn mx D T B M) (s : hsub g g') (mm : m ≤ m') (hb' : xbd m' g') : kRec n m' g' x hi dep Dh a E P FE Nn mx D T B M := by
  obtain ⟨h1, h2, h3, h4, h5, h6, h7, h8, h9⟩ := R
  have ls : hsub (hLo n g) (hLo n g') := fun q hq => by
    unfold hLo at hq ⊢
    by_cases c : q ≤ n
    · rw [if_pos c] at hq
      rw [if_pos c, if_pos c]
      exact s q hq
    · rw [if_neg c] at hq; exact absurd rfl hq
  exact ⟨h1.mono s, h2, fun i hi' => (h3 i hi').mono ls, h4, ⟨fun t k ht hk => by have := h5.1 t k ht hk; omega, h5.2⟩, h6, h7, h8, hb'⟩
/-- where the new plan stands -/
theorem k_plan154 {st pl p mxx : Nat} {N : Nat → Int32} {D0 T0 B0 M0 : Nat → Nat} {b : Nat} (hS : yO g 1 st) (hp : yr g 1 1 st = some pl) (PS : kPs g pl N mxx D0 T0 B0 M0) (hpc : p < nn (N 3)) (eb : B0 p = b) :
    ∀ (r i fu : Nat) (gg : xH) (mm : Nat), i + r = p → r < fu → hsub g gg → xbd mm gg → ∃ gg', fX1_plan_p154 fu (some st) b (Int32.ofNat i) Γ gg mm = some (.inl (Int32.ofNat p), gg', 4 * (r + 1), 21 * (r + 1)) ∧ hsub g gg' ∧ xbd (mm + 4 * (r + 1)) gg' := by
  have c12 := PS.2.1.1
  have BI := PS.2.1.inj
  have i1 : (1 : Int32) = Int32.ofNat 1 := rfl
  intro r
  induction r with
  | zero =>
    intro i fu gg mm hi' hf hs hb
    obtain ⟨fu, rfl⟩ : ∃ g, fu = g + 1 := ⟨fu - 1, by omega⟩
    obtain rfl : i = p := by omega
    have PS' : kPs gg pl N mxx D0 T0 B0 M0 := ⟨PS.1.mono hs, PS.2.1.sub hs, PS.2.2⟩
    obtain ⟨g2, e1, e2, e3⟩ := k_planAt (Γ := Γ) (p := Int32.ofNat i) (hO hS hs) ((yr_c (hs _ (yO_at hS))).trans hp) PS' hb
    have ek : kPA B0 (nn (N 3)) (Int32.ofNat i) = some b := by
      unfold kPA
      rw [i_toInt (by omega), if_pos (by omega), ← eb]
      rfl
    rw [ek] at e1
    refine ⟨g2, ?_, hs.trans e2, e3⟩
    rw [fX1_plan_p154, x_bc e1, if_pos rfl]
    rfl
  | succ r ih =>
    intro i fu gg mm hi' hf hs hb
    obtain ⟨fu, rfl⟩ : ∃ g, fu = g + 1 := ⟨fu - 1, by omega⟩
    have PS' : kPs gg pl N mxx D0 T0 B0 M0 := ⟨PS.1.mono hs, PS.2.1.sub hs, PS.2.2⟩
    obtain ⟨g2, e1, e2, e3⟩ := k_planAt (Γ := Γ) (p := Int32.ofNat i) (hO hS hs) ((yr_c (hs _ (yO_at hS))).trans hp) PS' hb
    have ek : kPA B0 (nn (N 3)) (Int32.ofNat i) = some (B0 i) := by
      unfold kPA
      rw [i_toInt (by omega), if_pos (by omega)]
      rfl
    rw [ek] at e1
    obtain ⟨g3, r1, r2, r3⟩ := ih (i + 1) fu g2 (mm + 4) (by omega) (by omega) (hs.trans e2) e3
    refine ⟨g3, ?_, r2, by rw [show mm + 4 * (r + 1 + 1) = mm + 4 + 4 * (r + 1) by omega]; exact r3⟩
    rw [fX1_plan_p154, x_bc e1, if_neg (fun z => by
      injection z with z
      have := BI i p (by omega) hpc (z.trans eb.symm)
      omega), xlet_ap, i1, i_add, r1]
    show some (_, _, 4 + 4 * (r + 1), 21 + 21 * (r + 1)) = some (_, _, 4 * (r + 1 + 1), 21 * (r + 1 + 1))
    rw [show 4 + 4 * (r + 1) = 4 * (r + 1 + 1) by omega, show 21 + 21 * (r + 1) = 21 * (r + 1 + 1) by omega]
theorem k_plan96 {y k s z : Nat} {v : Int32} {R : Nat → Int32} (H : kHs h x hi dep Dh a E P FE Nn mx D T B M) (hb : xbd n h) (KC : kKc Γ h) (hk : k < 3) (hy : y ≤ 9999) (hs : s < nn (Nn dep 0)) (hz : z ≤ nn (Nn dep (zI s 1))) (h12 : nn (Nn dep 3) < 12) (hmx : mx dep < 999999) (r0 : R 0 = Int32.ofNat y) (rk : R 1 = Int32.ofNat k) (r2 : R 2 = Int32.ofNat s) (r3 : R 3 = Int32.ofNat z) (r4 : R 4 = v) :
    ∃ g dc ds, fX1_plan_p96 x (Int32.ofNat y) (Int32.ofNat k) (Int32.ofNat s) (Int32.ofNat z) v (Int32.ofNat 1) Γ h n = some (.inl (Int32.ofNat (pPos (Nn dep) R 0 (nn (Nn dep 3)))), g, dc, ds) ∧ dc ≤ 120 ∧ ds ≤ 1300 ∧ kMr h n x hi dep Dh a E P FE Nn mx D T B M (pIns (Nn dep) R (pPos (Nn dep) R 0 (nn (Nn dep 3))) (nn (Nn dep 3))) (mx dep + 1) g dc := by
  have W := H.w
  have z12 := (kw_12 W hs).1
  have s4 := (kw_12 W hs).2.2
  obtain ⟨g, Dh', E', D', T', dc, ds, q1, q2, q3, Rc, q5, q6, q7, q8⟩ := k_rec (Γ := Γ) H hb
  have e0 : shF dep Nn (Nn dep) (dep + 1 - shD dep) = Nn dep := shF_eq
  have eD : shF dep D D' (dep + 1 - shD dep) = D' := shF_eq
  have eT : shF dep T T' (dep + 1 - shD dep) = T' := shF_eq
  have eB : shF dep B (B dep) (dep + 1 - shD dep) = B dep := shF_eq
  have eM : shF dep M (M dep) (dep + 1 - shD dep) = M dep := shF_eq
  have ex : shF dep mx (mx dep) (dep + 1 - shD dep) = mx dep := shF_eq
  have F := Rc.now
  have an := Rc.2.2.2.1
  have hbg := Rc.2.2.2.2.2.2.2.2
  have Ps := F.2.1
  rw [e0, eD, eT, eB, eM, ex, an 3] at Ps
  obtain ⟨L, Pr, TI, TS⟩ := Ps
  generalize hcnt : nn (Nn dep 3) = cnt at *
  have S1 := F.1
  have WS : yW g 1 (n + 1) := by
    have := S1.1
    rw [an 0] at this
    exact this
  have oS := yO_of _ _ _ WS
  have gpl : yr g 1 1 (n + 1) = some (n + 1 + 3) := by
    have := S1.2.2.1
    rw [an 0, an 3] at this
    exact this
  have gmx : yi g 1 4 (n + 1) = Int32.ofNat (mx dep) := by
    have := F.2.2.1
    rw [an 0, ex] at this
    exact this
  have KCg : kKc Γ g := fun k hk => by
    obtain ⟨c, c1, c2⟩ := KC k hk
    refine ⟨c, c1, c2.cg ?_⟩
    obtain ⟨j, j1, j2, j3, j4⟩ := c2
    exact q7 c (yO_at j3) (yO_ne j3 (yO_of _ _ _ H.1) (by omega)) (yO_ne j3 (yO_of _ _ _ H.2.2.2.2.1.1) (by omega)) (fun k hk => yO_ne j3 (yO_of _ _ _ (H.2.2.2.2.1.2.2.2.2.2.1 k hk).1) (by omega))
  obtain ⟨kc, kc1, kc2⟩ := KCg k hk
  -- the plan itself
  let m0 : Nat := n + dc
  let fs : List Value := [.int (Int32.ofNat y), va_rf (some kc), .int (Int32.ofNat s), .int (Int32.ofNat z), .int v, .int (Int32.ofNat (mx dep))]
  let g2 : xH := xupd g m0 (true, .inr (38, fs))
  have sub : ∀ l, hsub g (xupd g m0 (true, .inr (38, l))) := fun l => hsub_up (hbg m0 (Nat.le_refl _))
  have g14 : ∀ l, xgI 1 4 (some (n + 1)) Γ (xupd g m0 (true, .inr (38, l))) (m0 + 1) = some (.inl (Int32.ofNat (mx dep)), xupd g m0 (true, .inr (38, l)), 0, 0) := fun l => by
    rw [e_gI (hO oS (sub l)) kn1_4, yi_c (sub l _ (yO_at oS)), gmx]
  have ini : fX18_init m0 (Int32.ofNat y) (some kc) (Int32.ofNat s) (Int32.ofNat z) v (Int32.ofNat (mx dep)) Γ (xupd g m0 (true, .inr (38, [.int 0, .null, .int 0, .int 0, .int 0, .int 0]))) (m0 + 1) = some (.inl (), g2, 0, 0) := by
    unfold fX18_init
    rw [x_b1 (show xput 38 0 (some m0) (.int (Int32.ofNat y)) Γ (xupd g m0 (true, .inr (38, [.int 0, .null, .int 0, .int 0, .int 0, .int 0]))) (m0 + 1) = some (.inl (), xupd g m0 (true, .inr (38, [.int (Int32.ofNat y), .null, .int 0, .int 0, .int 0, .int 0])), 0, 0) from o1_p (by simp)), x_b1 (show xput 38 1 (some m0) (va_rf (some kc)) Γ (xupd g m0 (true, .inr (38, [.int (Int32.ofNat y), .null, .int 0, .int 0, .int 0, .int 0]))) (m0 + 1) = some (.inl (), xupd g m0 (true, .inr (38, [.int (Int32.ofNat y), va_rf (some kc), .int 0, .int 0, .int 0, .int 0])), 0, 0) from o1_p (by simp)), x_b1 (show xput 38 2 (some m0) (.int (Int32.ofNat s)) Γ (xupd g m0 (true, .inr (38, [.int (Int32.ofNat y), va_rf (some kc), .int 0, .int 0, .int 0, .int 0]))) (m0 + 1) = some (.inl (), xupd g m0 (true, .inr (38, [.int (Int32.ofNat y), va_rf (some kc), .int (Int32.ofNat s), .int 0, .int 0, .int 0])), 0, 0) from o1_p (by simp)), x_b1 (show xput 38 3 (some m0) (.int (Int32.ofNat z)) Γ (xupd g m0 (true, .inr (38, [.int (Int32.ofNat y), va_rf (some kc), .int (Int32.ofNat s), .int 0, .int 0, .int 0]))) (m0 + 1) = some (.inl (), xupd g m0 (true, .inr (38, [.int (Int32.ofNat y), va_rf (some kc), .int (Int32.ofNat s), .int (Int32.ofNat z), .int 0, .int 0])), 0, 0) from o1_p (by simp)), x_b1 (show xput 38 4 (some m0) (.int v) Γ (xupd g m0 (true, .inr (38, [.int (Int32.ofNat y), va_rf (some kc), .int (Int32.ofNat s), .int (Int32.ofNat z), .int 0, .int 0]))) (m0 + 1) = some (.inl (), xupd g m0 (true, .inr (38, [.int (Int32.ofNat y), va_rf (some kc), .int (Int32.ofNat s), .int (Int32.ofNat z), .int v, .int 0])), 0, 0) from o1_p (by simp)), x_b1 (show xput 38 5 (some m0) (.int (Int32.ofNat (mx dep))) Γ (xupd g m0 (true, .inr (38, [.int (Int32.ofNat y), va_rf (some kc), .int (Int32.ofNat s), .int (Int32.ofNat z), .int v, .int 0]))) (m0 + 1) = some (.inl (), g2, 0, 0) from o1_p (by simp))]
    rfl
  have s2 : hsub g g2 := sub _
  have b2 : xbd (m0 + 1) g2 := xbd_up1 hbg
  have W2 : yW g2 1 (n + 1) := hW WS s2
  let g3 : xH := ysi g2 1 4 (n + 1) (Int32.ofNat (mx dep + 1))
  have p3 : xput 1 4 (some (n + 1)) (.int (Int32.ofNat (mx dep + 1))) Γ g2 (m0 + 1) = some (.inl (), g3, 0, 0) := e_put W2 kn1_4
  have W3 : yW g3 1 (n + 1) := (yW_sv _ _ _ _ _ _ _).mpr W2
  have hd3 : ∀ q, yhd g3 q = yhd g2 q := fun q => yhd_sv _ _ _ _ _ _
  have f3 : ∀ q, q ≠ n + 1 → g3 q = g2 q := fun q hq => ysv_ne W2 hq
  have b3 : xbd (m0 + 1) g3 := xbd_hd b2 hd3
  have sm : n + 1 < m0 := xbd_lt hbg (yO_at oS)
  have lm : n + 1 + 3 < m0 := xbd_lt hbg (yO_at (yO_of _ _ _ L.1))
  have Dn : ∀ j, j < cnt → n + 5 ≤ D' j := fun j hj => by
    have := Rc.2.2.2.2.2.1 j (by rw [e0, hcnt]; exact hj)
    rw [eD] at this
    exact this
  have L3 : kLl g3 (n + 1 + 3) cnt D' T' := (L.mono s2).cg (f3 _ (by omega)) (fun j hj => f3 _ (by have := Dn j hj; omega))
  obtain ⟨g4, l1, l2, l3, l4, l5⟩ := k_llAdd (Γ := Γ) (v := m0) L3 b3 (by omega)
  have oL3 := yO_of _ _ _ L3.1
  have ad : xsel (some (n + 1 + 3)) [(6, fun z => fJ19_add z (some m0))] Γ g3 (m0 + 1) = some (.inl 1, g4, 1, 3) := by
    rw [e_sel oL3]
    unfold fJ19_add
    rw [x_bc ((e_sel oL3).trans l1)]
    rfl
  have ltD : ∀ j, j < cnt → D' j < m0 := fun j hj => xbd_lt hbg (yO_at (yO_of _ _ _ (L.2.2.2.2.2.1 j hj).1))
  have fr4 : ∀ q, g q ≠ none → q ≠ n + 1 → q ≠ n + 1 + 3 → (∀ j, j < cnt → q ≠ D' j) → g4 q = g q := fun q hq a1 a2 a3 => by
    have ql : q < m0 := xbd_lt hbg hq
    rw [l5 q (by omega) a2 a3, f3 q a1, s2 q hq]
  have hd4 : ∀ q, g q ≠ none → yhd g4 q = yhd g q := fun q hq => by
    have ql : q < m0 := xbd_lt hbg hq
    rw [l4 q (by omega), hd3 q, yhd_c (s2 q hq)]
  have es : g4 (n + 1) = g3 (n + 1) := l5 _ (by omega) (by omega) (fun j hj => by have := Dn j hj; omega)
  have eO : ∀ {c q : Nat}, yO g c q → c ≠ 1 → c ≠ 6 → c ≠ 25 → g4 q = g q := fun hq c1 c2 c3 => fr4 _ (yO_at hq) (yO_ne hq oS c1) (yO_ne hq (yO_of _ _ _ L.1) c2) (fun j hj => yO_ne hq (yO_of _ _ _ (L.2.2.2.2.2.1 j hj).1) c3)
  have Pr4 : kPr g4 (Nn dep) cnt (mx dep) (B dep) (M dep) := Pr.cg (fun q c hq hc => eO hq (by omega) (by omega) (by omega))
  have em : g4 m0 = some (true, .inr (38, fs)) := (l5 m0 (by omega) (by omega) (fun j hj => by have := ltD j hj; omega)).trans ((f3 m0 (by omega)).trans up_self)
  have Pm : kPl g4 m0 R (mx dep) := by
    refine ⟨⟨true, by unfold yhd; rw [em]; rfl⟩, by unfold yi yv; rw [em, r0]; rfl, ⟨kc, by unfold yr yv; rw [em]; rfl, ?_⟩, by unfold yi yv; rw [em, r2]; rfl, by unfold yi yv; rw [em, r3]; rfl, by unfold yi yv; rw [em, r4]; rfl, by unfold yi yv; rw [em]; rfl⟩
    rw [rk]
    refine kc2.cg ?_
    obtain ⟨j, j1, j2, j3, j4⟩ := kc2
    exact eO j3 (by omega) (by omega) (by omega)
  have oR : okR R (mx dep) := by
    refine ⟨fun w hw => ?_, by rw [r0, nn_of (by omega)]; exact hy, by rw [rk, nn_of (by omega)]; exact hk, by rw [r2, nn_of (by omega)]; exact s4, by rw [r3, nn_of (by omega)]; omega, by omega⟩
    rcases (show w = 0 ∨ w = 1 ∨ w = 2 ∨ w = 3 by omega) with rfl | rfl | rfl | rfl
    · rw [r0]; exact nN_of _ (by omega)
    · rw [rk]; exact nN_of _ (by omega)
    · rw [r2]; exact nN_of _ (by omega)
    · rw [r3]; exact nN_of _ (by omega)
  obtain ⟨Ps4, pc⟩ := kPs.ins (p := pPos (Nn dep) R 0 cnt) l2 Pr4 TI TS Pm oR h12 (fun j hj z => by
    have := xbd_lt hbg (yO_at (Pr.2.1 j hj).1.1)
    omega) rfl
  generalize hp : pPos (Nn dep) R 0 cnt = p at *
  have okI : okN (pIns (Nn dep) R p cnt) := okN.ins (by have := F.2.2.2.1; rw [e0] at this; exact this) hcnt h12 pc hs hz r2 r3
  have e3 : nn (pIns (Nn dep) R p cnt 3) = cnt + 1 := by
    unfold pIns
    rw [if_pos rfl, nn_of (by omega)]
  have v4 : ∀ k, k ≠ 4 → yi g4 1 k (n + 1) = yi g 1 k (n + 1) := fun k hk' => by
    rw [yi_c es, yi_si W2 kn1_4, if_neg (fun zz => hk' zz.2.1), yi_c (s2 _ (yO_at oS))]
  have w4 : ∀ k, k ≠ 4 → yr g4 1 k (n + 1) = yr g 1 k (n + 1) := fun k hk' => by
    rw [yr_c es, yr_si W2 kn1_4 _ _ _ (fun zz => hk' zz.2), yr_c (s2 _ (yO_at oS))]
  have R' := Rc.plans (g' := g4) (m' := n + dc + 2) (N' := pIns (Nn dep) R p cnt) (mx' := mx dep + 1) (D' := va_up D' cnt (m0 + 1)) (T' := va_up T' cnt m0) (B' := fIn (B dep) p m0) (M' := fIn (M dep) p (mx dep)) (by omega) l3 (by
      rw [an 0, an 3, eD, e0, hcnt]
      exact fr4) hd4 (by rw [an 0]; exact w4 0 (by omega)) (by rw [an 0]; exact w4 1 (by omega)) (by rw [an 0]; exact v4 2 (by omega)) (by rw [an 0]; exact v4 3 (by omega)) (by
      rw [an 0]
      show yi g4 1 4 (n + 1) = _
      rw [yi_c es, yi_si W2 kn1_4, if_pos ⟨rfl, rfl, rfl⟩]) (by rw [an 3]; exact Ps4) (by
      rw [e3, eD, e0, hcnt]
      intro j hj
      rw [va_ap]
      by_cases c0 : j = cnt
      · rw [if_pos c0]; exact Or.inr (by omega)
      · rw [if_neg c0]; exact Or.inl ⟨j, by omega, rfl⟩) okI (by
      rw [e0]
      intro j hj
      unfold pIns
      rw [if_neg (by omega), if_neg (by omega), if_neg (by omega)]) (by
      rw [e0]
      intro j h1 h2
      unfold pIns
      rw [if_neg (by omega), if_neg (by omega), if_neg (by omega)])
  have oS4 : yO g4 1 (n + 1) := (yO_c es).mpr (yO_of _ _ _ W3)
  obtain ⟨g5, t1, t2, t3⟩ := k_plan154 (Γ := Γ) (b := m0) oS4 ((w4 1 (by omega)).trans gpl) Ps4 (p := p) (by rw [e3]; omega) (by unfold fIn; rw [if_neg (by omega), if_pos rfl]) p 0 xFU g4 (n + dc + 2) (by omega) (by unfold xFU; omega) hsub.rfl l3
  have R5 := R'.mono t2 (by omega) t3
  have o4 : ∀ q, g q ≠ none → g4 q ≠ none := fun q hq => hd_at (hd4 q hq) hq
  have xl := Rc.2.1.1
  have x5 : g5 x = g x := by
    have xo := yO_at (yO_of _ _ _ Rc.1.1)
    rw [t2 _ (o4 x xo)]
    exact eO (yO_of _ _ _ Rc.1.1) (by omega) (by omega) (by omega)
  refine ⟨g5, dc + 2 + 4 * (p + 1), ds + 9 + 21 * (p + 1), ?_, by omega, by omega, n, Dh', E', va_up D' cnt (m0 + 1), va_up T' cnt m0, fIn (B dep) p m0, fIn (M dep) p (mx dep), Nat.le_refl _, ?_, fun k' hk' => ?_, fun k' => ?_, fun q hq a1 a2 a3 => ?_⟩
  · have i1 : (1 : Int32) = Int32.ofNat 1 := rfl
    have kd : fX1_kindOf (Int32.ofNat k) Γ (xupd g m0 (true, .inr (38, [.int 0, .null, .int 0, .int 0, .int 0, .int 0]))) (m0 + 1) = some (.inl (some kc), xupd g m0 (true, .inr (38, [.int 0, .null, .int 0, .int 0, .int 0, .int 0])), 0, 0) := by rw [k_kindOf hk, kc1]
    have gp3 := e_gR (Γ := Γ) (n := m0 + 1) (yO_of _ _ _ W3) kn1_1
    rw [show yr g3 1 1 (n + 1) = some (n + 1 + 3) by rw [yr_si W2 kn1_4 _ _ _ (by omega), yr_c (s2 _ (yO_at oS)), gpl]] at gp3
    unfold fX1_plan_p96
    rw [x_b1 k_cst1, x_bc q1, x_bc (show xnew 38 [.int 0, .null, .int 0, .int 0, .int 0, .int 0] 6 Γ g (n + dc) = some (.inl m0, xupd g m0 (true, .inr (38, [.int 0, .null, .int 0, .int 0, .int 0, .int 0])), 1, 6) from rfl), x_b1 kd, x_b1 (g14 _), x_b1 ini, x_b1 (g14 _), i1, i_add, x_b1 p3, x_b1 gp3, x_bc ad, xlet_ap]
    rw [show (0 : Int32) = Int32.ofNat 0 from rfl, show m0 + 1 + 1 = n + dc + 2 from rfl, t1]
    show some (_, _, dc + (1 + (1 + 4 * (p + 1))), ds + (6 + (3 + 21 * (p + 1)))) = some (_, _, dc + 2 + 4 * (p + 1), ds + 9 + 21 * (p + 1))
    rw [show dc + (1 + (1 + 4 * (p + 1))) = dc + 2 + 4 * (p + 1) by omega, show ds + (6 + (3 + 21 * (p + 1))) = ds + 9 + 21 * (p + 1) by omega]
  · rw [show n + (dc + 2 + 4 * (p + 1)) = n + dc + 2 + 4 * (p + 1) by omega]
    exact R5.cgE (fun _ _ => rfl) (fun i hi' => shF_up hi') (fun i hi' => shF_up hi') (fun i hi' => shF_up hi') (fun i hi' => shF_up hi') (fun i hi' => shF_up hi') (fun i hi' => shF_up hi')
  · rw [yr_c x5]; exact q5 k' hk'
  · rw [yi_c x5]; exact q6 k'
  · have gq := hd_at (q8 q hq) hq
    have ql := xbd_lt hb hq
    rw [t2 q (o4 q gq), fr4 q gq (by omega) (by omega) (fun j hj => by have := Dn j hj; omega)]
    exact q7 q hq a1 a2 a3
end PN
