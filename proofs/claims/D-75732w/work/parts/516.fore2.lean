/-! part 516: the component: totalIn, share, growth, below -/
theorem i_rngI {lo hi : Nat} {q : Int32} (h1 : lo < 2147483648) (h2 : hi < 2147483648) : (Int32.ofNat lo ≤ q ∧ q ≤ Int32.ofNat hi) ↔ ((lo : Int) ≤ q.toInt ∧ q.toInt ≤ hi) := by
  rw [Int32.le_iff_toInt_le, Int32.le_iff_toInt_le, i_toInt h1, i_toInt h2]
set_option maxRecDepth 100000 in
theorem yk1010 : ykn 1010 = [] := by decide
set_option maxRecDepth 100000 in
theorem yk1011 : ykn 1011 = [0] := by decide
set_option maxRecDepth 100000 in
theorem yk1012 : ykn 1012 = [0, 0] := by decide
def xadd {α : Type} (c s : Nat) (o : Option ((α ⊕ Nat) × xH × Nat × Nat)) : Option ((α ⊕ Nat) × xH × Nat × Nat) := match o with
  | none => none
  | some (r, h2, c2, s2) => some (r, h2, c + c2, s + s2)
theorem x_bc {α β : Type} {f : xM α} {k : α → xM β} {Γ : Nat → Option Nat} {h h1 : xH} {n c s : Nat} {a : α} (e : f Γ h n = some (.inl a, h1, c, s)) : xbind f k Γ h n = xadd c s (k a Γ h1 (n + c)) := by
  unfold xbind xadd
  rw [e]
  dsimp only
  cases k a Γ h1 (n + c) <;> rfl
theorem x_bx {α β : Type} {f : xM α} {k : α → xM β} {Γ : Nat → Option Nat} {h h1 : xH} {n c s q : Nat} (e : f Γ h n = some (.inr q, h1, c, s)) : xbind f k Γ h n = some (.inr q, h1, c, s) := by
  unfold xbind
  rw [e]
theorem xadd_s {α : Type} {c s c2 s2 : Nat} {r : α ⊕ Nat} {h : xH} : xadd c s (some (r, h, c2, s2)) = some (r, h, c + c2, s + s2) := rfl
section KG
variable {Γ : Nat → Option Nat} {h : xH} {n st : Nat} {Y : Nat → Nat} {p fe s : Nat} {N : Nat → Int32}
theorem k_carg1 : fX1_checkArgument (Int32.ofNat 1) Γ h n = some (.inl (), h, 0, 0) := by
  unfold fX1_checkArgument
  simp only [i_ofNat, if_neg b2i_1, xpure]
theorem k_carg0 : fX1_checkArgument (Int32.ofNat 0) Γ h n = some (.inr n, kNx h n 3, 1, 6) := by
  unfold fX1_checkArgument
  simp only [i_ofNat, if_true]
  exact k_throw
theorem k_bd2 {m : Nat} {f : Nat → Int32} {u b : Int32} (hb : xbd m h) : xbd (m + 2) (kS h m (m + 1) p f u b) := fun a ha => by rw [ks_o (by omega) (by omega)]; exact hb a (by omega)
theorem k_up {co q : Nat} {f : Nat → Int32} {u b : Int32} {c : xAC} (h1 : q ≠ st) (h2 : q ≠ co) : xupd (kS h st co p f u b) q c = kS (xupd h q c) st co p f u b := by
  unfold kS
  rw [up_comm h2.symm, up_comm h1.symm]
variable {x al ae pl sd : Nat} {E : Nat → Nat → Nat} {P FE : Nat → Nat} {t : Nat}
/-- species t is as it should be -/
def kOk (N : Nat → Int32) (t : Nat) : Prop := bN N t ∧ zN N t
theorem kw_z (W : kW h x sd al ae pl E P FE N) (ht : t < nn (N 0)) : zN N t := (kw_hd W ht).2.2.2.2.2.2.2.2.2.2.2.2.1
theorem k_totalIn1 {la y : Nat} (W : kW h x sd al ae pl E P FE N) (ht : t < nn (N 0)) (hb : xbd n h) (hbN : bN N t) (hla : yO h 1010 la) (hΓ : Γ 210 = some la) (hy : y ≤ 50) : ∃ h', fX1_totalIn x (Int32.ofNat t) (Int32.ofNat y) Γ h n = some (.inl (pTot (pGoes t (nn (N (zI t 1))) y N) t (nn (N (zI t 1)))), h', 2, 17) ∧ hsub h h' ∧ xbd (n + 2) h' := by
  have b := kw_12 W ht
  obtain ⟨f', u', b', e1, r1, r2, r3⟩ := k_after (Γ := Γ) (kw_hd W ht) (kw_sp W ht) hb hbN (kw_z W ht) hla hΓ hy
  have e2 := k_tot (Γ := Γ) (h := h) (n := n + 2) (st := n) (co := n + 1) (p := P t) (u := u') (b := b') (by omega) r1 r3 (by rw [r2.1]; exact b.1)
  rw [r2.1] at e2
  have c1 : decide (Int32.ofNat 0 ≤ Int32.ofNat y ∧ Int32.ofNat y ≤ Int32.ofNat 50) = true := decide_eq_true ((i_rngI (by decide) (by decide)).mpr (by rw [i_toInt (by omega)]; omega))
  refine ⟨kS h n (n + 1) (P t) f' u' b', ?_, k_old (fun a ha => by have := xbd_lt hb ha; omega), k_bd2 hb⟩
  simp only [fX1_totalIn, xbind, kw_x W, k_herd1 W ht, i_ofNat, k_inRange, c1, b2i_t, k_carg1, e1, e2, xpure, Nat.add_zero, Nat.zero_add]
theorem k_totalIn0 (W : kW h x sd al ae pl E P FE N) {p q : Int32} (hp : ¬ vS N p) : fX1_totalIn x p q Γ h n = some (.inr n, kNx h n 8, 1, 6) := by
  simp only [fX1_totalIn, xbind, kw_x W, k_herd0 W hp]
theorem k_totalIn2 (W : kW h x sd al ae pl E P FE N) (ht : t < nn (N 0)) {q : Int32} (hq : ¬ (0 ≤ q.toInt ∧ q.toInt ≤ 50)) : fX1_totalIn x (Int32.ofNat t) q Γ h n = some (.inr n, kNx h n 3, 1, 6) := by
  have c1 : decide (Int32.ofNat 0 ≤ q ∧ q ≤ Int32.ofNat 50) = false := decide_eq_false (fun z => hq ((i_rngI (by decide) (by decide)).mp z))
  simp only [fX1_totalIn, xbind, kw_x W, k_herd1 W ht, i_ofNat, k_inRange, c1, b2i_f, k_carg0, Nat.add_zero, Nat.zero_add]
theorem k_share1 {la y j : Nat} (W : kW h x sd al ae pl E P FE N) (ht : t < nn (N 0)) (hj : j ≤ nn (N (zI t 1))) (hb : xbd n h) (hbN : bN N t) (hla : yO h 1010 la) (hΓ : Γ 210 = some la) (hy : y ≤ 50) : ∃ h', fX1_share x (Int32.ofNat t) (Int32.ofNat j) (Int32.ofNat y) Γ h n = some (.inl (pShare N t (nn (N (zI t 1))) j y), h', 2, 17) ∧ hsub h h' ∧ xbd (n + 2) h' := by
  have b := kw_12 W ht
  have d : n ≠ n + 1 := by omega
  obtain ⟨f', u', b', e1, r1, r2, r3⟩ := k_after (Γ := Γ) (kw_hd W ht) (kw_sp W ht) hb hbN (kw_z W ht) hla hΓ hy
  have e2 := k_tot (Γ := Γ) (h := h) (n := n + 2) (st := n) (co := n + 1) (p := P t) (u := u') (b := b') (by omega) r1 r3 (by rw [r2.1]; exact b.1)
  rw [r2.1] at e2
  have c1 : decide (Int32.ofNat 0 ≤ Int32.ofNat y ∧ Int32.ofNat y ≤ Int32.ofNat 50) = true := decide_eq_true ((i_rngI (by decide) (by decide)).mpr (by rw [i_toInt (by omega)]; omega))
  refine ⟨kS h n (n + 1) (P t) f' u' b', ?_, k_old (fun a ha => by have := xbd_lt hb ha; omega), k_bd2 hb⟩
  unfold pShare
  have rj := r1 j (by omega)
  by_cases hz : pTot (pGoes t (nn (N (zI t 1))) y N) t (nn (N (zI t 1))) = Int32.ofNat 0
  · simp only [fX1_share, xbind, kw_x W, k_herdWith1 W ht hj, i_ofNat, k_inRange, c1, b2i_t, k_carg1, e1, e2, if_pos hz, xpure, Nat.add_zero, Nat.zero_add]
  · have q1 := fun (k : xM UInt64) => x_ddiv (k := k) (dFin.i2d (pGoes t (nn (N (zI t 1))) y N (zI t (39 + j)))).num (dNz.i2d (d_i0 hz))
    simp only [fX1_share, xbind, kw_x W, k_herdWith1 W ht hj, i_ofNat, k_inRange, c1, b2i_t, k_carg1, e1, e2, if_neg hz, ks_g1 d, ks_l (show j < 13 by omega), rj, q1, xpure, Nat.add_zero, Nat.zero_add]
theorem k_share0 (W : kW h x sd al ae pl E P FE N) {p q r : Int32} (hp : ¬ vA N p q) : fX1_share x p q r Γ h n = some (.inr n, kNx h n 8, 1, 6) := by
  simp only [fX1_share, xbind, kw_x W, k_herdWith0 W hp]
theorem k_share2 {j : Nat} (W : kW h x sd al ae pl E P FE N) (ht : t < nn (N 0)) (hj : j ≤ nn (N (zI t 1))) {q : Int32} (hq : ¬ (0 ≤ q.toInt ∧ q.toInt ≤ 50)) : fX1_share x (Int32.ofNat t) (Int32.ofNat j) q Γ h n = some (.inr n, kNx h n 3, 1, 6) := by
  have c1 : decide (Int32.ofNat 0 ≤ q ∧ q ≤ Int32.ofNat 50) = false := decide_eq_false (fun z => hq ((i_rngI (by decide) (by decide)).mp z))
  simp only [fX1_share, xbind, kw_x W, k_herdWith1 W ht hj, i_ofNat, k_inRange, c1, b2i_f, k_carg0, Nat.add_zero, Nat.zero_add]
theorem k_growth1 {la y : Nat} (W : kW h x sd al ae pl E P FE N) (ht : t < nn (N 0)) (hb : xbd n h) (hbN : bN N t) (hla : yO h 1010 la) (hΓ : Γ 210 = some la) (h1 : 1 ≤ y) (hy : y ≤ 50) : ∃ h' dc ds, fX1_growth x (Int32.ofNat t) (Int32.ofNat y) Γ h n = some (.inl (pGrow N t (nn (N (zI t 1))) y), h', dc, ds) ∧ dc ≤ 4 ∧ ds ≤ 34 ∧ hsub h h' ∧ xbd (n + dc) h' := by
  have b := kw_12 W ht
  have sy : Int32.ofNat y - Int32.ofNat 1 = Int32.ofNat (y - 1) := i_sub h1
  obtain ⟨f', u', b', e1, r1, r2, r3⟩ := k_after (Γ := Γ) (kw_hd W ht) (kw_sp W ht) hb hbN (kw_z W ht) hla hΓ (show y - 1 ≤ 50 by omega)
  have e2 := k_tot (Γ := Γ) (h := h) (n := n + 2) (st := n) (co := n + 1) (p := P t) (u := u') (b := b') (by omega) r1 r3 (by rw [r2.1]; exact b.1)
  rw [r2.1] at e2
  have c1 : decide (Int32.ofNat 1 ≤ Int32.ofNat y ∧ Int32.ofNat y ≤ Int32.ofNat 50) = true := decide_eq_true ((i_rngI (by decide) (by decide)).mpr (by rw [i_toInt (by omega)]; omega))
  have hs := k_old (h := h) (st := n) (co := n + 1) (p := P t) (f := f') (u := u') (b := b') (fun a ha => by have := xbd_lt hb ha; omega)
  have hb2 := k_bd2 (p := P t) (f := f') (u := u') (b := b') hb
  obtain ⟨g', v', c', a1, s1, s2, s3⟩ := k_after (Γ := Γ) ((kw_hd W ht).mono hs) ((kw_sp W ht).mono hs) hb2 hbN (kw_z W ht) ((yO_c (hs _ (yO_at hla))).mpr hla) hΓ hy
  have a2 := k_tot (Γ := Γ) (h := kS h n (n + 1) (P t) f' u' b') (n := n + 2 + 2) (st := n + 2) (co := n + 2 + 1) (p := P t) (u := v') (b := c') (by omega) s1 s3 (by rw [s2.1]; exact b.1)
  rw [s2.1] at a2
  unfold pGrow
  by_cases hz : pTot (pGoes t (nn (N (zI t 1))) (y - 1) N) t (nn (N (zI t 1))) = Int32.ofNat 0
  · refine ⟨_, 2, 17, ?_, by omega, by omega, hs, hb2⟩
    simp only [fX1_growth, xbind, kw_x W, k_herd1 W ht, i_ofNat, k_inRange, c1, b2i_t, k_carg1, sy, e1, e2, if_pos hz, xpure, Nat.add_zero, Nat.zero_add]
  · have q1 := fun (k : xM UInt64) => x_ddiv (k := k) (dFin.i2d (pTot (pGoes t (nn (N (zI t 1))) y N) t (nn (N (zI t 1))))).num (dNz.i2d (d_i0 hz))
    refine ⟨kS (kS h n (n + 1) (P t) f' u' b') (n + 2) (n + 2 + 1) (P t) g' v' c', 4, 34, ?_, by omega, by omega, hs.trans (k_old (fun a ha => by have := xbd_lt hb2 ha; omega)), k_bd2 hb2⟩
    simp only [fX1_growth, xbind, kw_x W, k_herd1 W ht, i_ofNat, k_inRange, c1, b2i_t, k_carg1, sy, e1, e2, if_neg hz, a1, a2, q1, xpure, Nat.add_zero, Nat.zero_add, Nat.reduceAdd]
theorem k_growth0 (W : kW h x sd al ae pl E P FE N) {p q : Int32} (hp : ¬ vS N p) : fX1_growth x p q Γ h n = some (.inr n, kNx h n 8, 1, 6) := by
  simp only [fX1_growth, xbind, kw_x W, k_herd0 W hp]
theorem k_growth2 (W : kW h x sd al ae pl E P FE N) (ht : t < nn (N 0)) {q : Int32} (hq : ¬ (1 ≤ q.toInt ∧ q.toInt ≤ 50)) : fX1_growth x (Int32.ofNat t) q Γ h n = some (.inr n, kNx h n 3, 1, 6) := by
  have c1 : decide (Int32.ofNat 1 ≤ q ∧ q ≤ Int32.ofNat 50) = false := decide_eq_false (fun z => hq ((i_rngI (by decide) (by decide)).mp z))
  simp only [fX1_growth, xbind, kw_x W, k_herd1 W ht, i_ofNat, k_inRange, c1, b2i_f, k_carg0, Nat.add_zero, Nat.zero_add]
/-! below -/
theorem k_foresee {a b c : Option Nat} {y : Int32} : fX1_foresee a b y c Γ h n = fX1_foresee_p3 xFU a b y c (Int32.ofNat 0) Γ h n := by
  unfold fX1_foresee xlet
  rw [i_ofNat]
theorem i_50 : (50 : Int32) = Int32.ofNat 50 := rfl
theorem k_fore11 {co la : Nat} {least : Int32} (d : st ≠ co) (H : kHd h Y p N s) (hp : kSpN h p fe N s) (ho : nn (N (zI s 1)) ≤ 12) (old : ∀ a, h a ≠ none → a ≠ st ∧ a ≠ co) (hla : yO h 1011 la) (hle : yi h 1011 0 la = least) : ∀ (k x fu : Nat) (M f : Nat → Int32) (u b : Int32), x + k = 50 → k < fu → sta N M s → bN M s → zN M s → fN f M s →
    ∃ f' u' b' M' r, fX1_foresee_p3 fu (some (Y 0)) (some st) (Int32.ofNat 50) (some la) (Int32.ofNat x) Γ (kS h st co p f u b) n = some (.inl (Int32.ofNat r), kS h st co p f' u' b', 0, 0) ∧ fN f' M' s ∧ sta N M' s ∧ zN M' s ∧ pBel s (nn (N (zI s 1))) least (k + 1) x M = (if pTot M' s (nn (N (zI s 1))) < least then some r else none) := by
  intro k
  induction k with
  | zero =>
    intro x fu M f u b hx hfu hs hbM hz hf
    obtain ⟨fu, rfl⟩ : ∃ g, fu = g + 1 := ⟨fu - 1, by omega⟩
    obtain rfl : x = 50 := by omega
    have c1 : Int32.ofNat 50 ≤ Int32.ofNat 50 := by decide
    refine ⟨f, u, b, M, 50, ?_, hf, hs, hz, ?_⟩
    · rw [fX1_foresee_p3]
      simp only [if_pos c1, xpure]
    · rw [pBel]
      split
      · rfl
      · rw [pBel]
  | succ k ih =>
    intro x fu M f u b hx hfu hs hbM hz hf
    obtain ⟨fu, rfl⟩ : ∃ g, fu = g + 1 := ⟨fu - 1, by omega⟩
    have c1 : ¬ Int32.ofNat 50 ≤ Int32.ofNat x := by rw [i_le (by omega) (by omega)]; omega
    have hsub := k_old (p := p) (f := f) (u := u) (b := b) old
    have el := hsub _ (yO_at hla)
    have hl := (yO_c el).mpr hla
    have hl2 := (yi_c (k := 0) el).trans hle
    have e0 := k_tot (Γ := Γ) (h := h) (n := n) (st := st) (co := co) (p := p) (u := u) (b := b) d hf hz (by rw [hs.1]; exact ho)
    rw [hs.1] at e0
    have Hm := H.mono hsub
    by_cases hc : pTot M s (nn (N (zI s 1))) < least
    · refine ⟨f, u, b, M, x, ?_, hf, hs, hz, ?_⟩
      · rw [fX1_foresee_p3]
        simp only [if_neg c1, xbind, e_sel2 hl (show (1011 : Nat) ≠ 1010 by decide), e_sel hl, fL_11, fX1_lambda_below_11, e_gI hl kn1011_0, hl2, e0, if_pos hc, xpure, i_ofNat, x_ret0, if_true, Nat.add_zero]
      · rw [pBel, if_pos hc, if_pos hc]
    · obtain ⟨f1, u1, b1, e1, hf1⟩ := k_year (Γ := Γ) (n := n) (u := u) (b := b) d H hp ho old hs hbM hf
      obtain ⟨f2, u2, b2, M2, r, e2, r2, r3, r4, r5⟩ := ih (x + 1) fu (pAges M s (nn (N (zI s 1)))) f1 u1 b1 (by omega) (by omega) (hs.trans (pAges_sta ho)) (hbM.ages ho) (hz.ages ho (by rw [hs.1])) hf1
      refine ⟨f2, u2, b2, M2, r, ?_, r2, r3, r4, ?_⟩
      · rw [fX1_foresee_p3]
        simp only [if_neg c1, xbind, xlet, e_sel2 hl (show (1011 : Nat) ≠ 1010 by decide), e_sel hl, fL_11, fX1_lambda_below_11, e_gI hl kn1011_0, hl2, e0, if_neg hc, xpure, i_ofNat, x_ret1, if_neg b2i_1, kh_1 Hm, kh_3 Hm, ks_sel d, e1, i_add, e2, Nat.add_zero]
      · rw [pBel, if_neg hc]
        exact r5
theorem k_below1 (W : kW h x sd al ae pl E P FE N) (ht : t < nn (N 0)) (hb : xbd n h) (hbN : bN N t) (least : Int32) : ∃ h', fX1_below x (Int32.ofNat t) least Γ h n = some (.inl (o2i (pBel t (nn (N (zI t 1))) least 51 0 N)), h', 3, 18) ∧ hsub h h' ∧ xbd (n + 3) h' := by
  have b := kw_12 W ht
  have d : n ≠ n + 1 := by omega
  have H := kw_hd W ht
  have hp := kw_sp W ht
  obtain ⟨g, u, c, e1, f1⟩ := k_thought (Γ := Γ) H hb
  have hs := hsub_up (h := h) (n := n + 2) (c := (true, .inr (1011, [.int least]))) (hb (n + 2) (by omega))
  have hu := k_up (h := h) (st := n) (co := n + 1) (q := n + 2) (p := P t) (f := g) (u := u) (b := c) (c := (true, .inr (1011, [.int least]))) (by omega) (by omega)
  have hla : yO (xupd h (n + 2) (true, .inr (1011, [.int least]))) 1011 (n + 2) := ⟨true, by unfold yhd; rw [up_self, yk1011]; rfl⟩
  have hle : yi (xupd h (n + 2) (true, .inr (1011, [.int least]))) 1011 0 (n + 2) = least := by unfold yi yv; rw [up_self]; rfl
  have old : ∀ a, (xupd h (n + 2) (true, .inr (1011, [.int least])) : xH) a ≠ none → a ≠ n ∧ a ≠ n + 1 := by
    intro a ha
    by_cases e : a = n + 2
    · omega
    · rw [up_ne e] at ha
      have := xbd_lt hb ha
      omega
  obtain ⟨f2, u2, b2, M2, r, e2, r2, r3, r4, r5⟩ := k_fore11 (Γ := Γ) (n := n + 2 + 1) (st := n) (co := n + 1) d (H.mono hs) (hp.mono hs) b.1 old hla hle 50 0 xFU N g u c (by omega) (by unfold xFU; omega) sta.refl hbN (kw_z W ht) f1
  have e3 := k_tot (Γ := Γ) (h := xupd h (n + 2) (true, .inr (1011, [.int least]))) (n := n + 2 + 1) (st := n) (co := n + 1) (p := P t) (u := u2) (b := b2) d r2 r4 (by rw [r3.1]; exact b.1)
  rw [r3.1] at e3
  refine ⟨kS (xupd h (n + 2) (true, .inr (1011, [.int least]))) n (n + 1) (P t) f2 u2 b2, ?_, hs.trans (k_old old), ?_⟩
  · have e4 : fX1_foresee (some (E t 0)) (some n) (50 : Int32) (some (n + 2)) Γ (kS (xupd h (n + 2) (true, .inr (1011, [.int least]))) n (n + 1) (P t) g u c) (n + 2 + 1) = some (.inl (Int32.ofNat r), kS (xupd h (n + 2) (true, .inr (1011, [.int least]))) n (n + 1) (P t) f2 u2 b2, 0, 0) := by
      rw [k_foresee, i_50]
      exact e2
    have e5 : xnew 1011 [.int least] 1 Γ (kS h n (n + 1) (P t) g u c) (n + 2) = some (.inl (n + 2), kS (xupd h (n + 2) (true, .inr (1011, [.int least]))) n (n + 1) (P t) g u c, 1, 1) := by
      unfold xnew
      rw [hu]
    unfold fX1_below
    rw [x_b1 ((kw_x W).trans (k_herd1 W ht)), x_bc e1, x_bc e5, x_b1 e4, x_b1 e3, r5]
    by_cases hc : pTot M2 t (nn (N (zI t 1))) < least
    · rw [if_neg (Int32.not_le.mpr hc), if_pos hc]
      rfl
    · rw [if_pos (Int32.not_lt.mp hc), if_neg hc]
      rfl
  · intro a ha
    rw [ks_o (by omega) (by omega), up_ne (by omega)]
    exact hb a (by omega)
theorem k_below0 (W : kW h x sd al ae pl E P FE N) {p q : Int32} (hp : ¬ vS N p) : fX1_below x p q Γ h n = some (.inr n, kNx h n 8, 1, 6) := by
  simp only [fX1_below, xbind, kw_x W, k_herd0 W hp]
end KG
