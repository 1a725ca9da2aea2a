/-! part 518: the component: steadyTake, its search -/
section KU
variable {Γ : Nat → Option Nat} {h : xH} {n st : Nat} {Y : Nat → Nat} {p fe s : Nat} {N : Nat → Int32}
/-- a new lambda with two numbers -/
def kLam (h : xH) (n : Nat) (a b : Int32) : xH := xupd h n (true, .inr (1012, [.int a, .int b]))
theorem k_works {co y L : Nat} {f : Nat → Int32} {u b least : Int32} (d : st ≠ co) (H : kHd h Y p N s) (hp : kSpN h p fe N s) (old : ∀ a, h a ≠ none → a ≠ st ∧ a ≠ co) (hbN : bN N s) (hz : zN N s) (hn : h n = none) (n1 : n ≠ st) (n2 : n ≠ co) (hL : L < 2147483648) (hy : y ≤ 30) (hy1 : 1 ≤ y) : ∃ f' u' b', fX1_works (some (Y 0)) (some st) (Int32.ofNat L) (Int32.ofNat y) least Γ (kS h st co p f u b) n = some (.inl (b2i (pWrk s (nn (N (zI s 1))) (nn (N (zI s 2))) (Int32.ofNat L) least y N)), kS (kLam h n (Int32.ofNat L) least) st co p f' u' b', 1, 2) := by
  have ho := hp.1.2.2.2.2.2.2.1
  have o0 := old _ (H.at 0 (by omega))
  have o2 := old _ (H.at 2 (by omega))
  have o3 := old _ (H.at 3 (by omega))
  obtain ⟨g, e1, f1⟩ := k_become (Γ := Γ) (n := n) (f := f) (u := u) (b := b) d H o2.1 o2.2 o3.1 o3.2
  have Hm := H.mono (k_old (p := p) (f := f) (u := u) (b := b) old)
  have e2 : xnew 1012 [.int (Int32.ofNat L), .int least] 2 Γ (kS h st co p g u b) n = some (.inl n, kS (kLam h n (Int32.ofNat L) least) st co p g u b, 1, 2) := by
    unfold xnew
    rw [k_up n1 n2]
    rfl
  have hs := hsub_up (h := h) (n := n) (c := (true, .inr (1012, [.int (Int32.ofNat L), .int least]))) hn
  have hla : yO (kLam h n (Int32.ofNat L) least) 1012 n := ⟨true, by unfold yhd kLam; rw [up_self, yk1012]; rfl⟩
  have hl0 : yi (kLam h n (Int32.ofNat L) least) 1012 0 n = Int32.ofNat L := by unfold yi yv kLam; rw [up_self]; rfl
  have hl1 : yi (kLam h n (Int32.ofNat L) least) 1012 1 n = least := by unfold yi yv kLam; rw [up_self]; rfl
  have old2 : ∀ a, (kLam h n (Int32.ofNat L) least) a ≠ none → a ≠ st ∧ a ≠ co := by
    intro a ha
    by_cases e : a = n
    · subst e; exact ⟨n1, n2⟩
    · unfold kLam at ha
      rw [up_ne e] at ha
      exact old a ha
  obtain ⟨f2, u2, b2, M2, r, e3, r1, r2, r3, r4, r5⟩ := k_fore12 (Γ := Γ) (h := kLam h n (Int32.ofNat L) least) (n := n + 1) d (H.mono hs) (hp.mono hs) old2 hla hl0 hl1 hL hy hy1 y 0 xFU N g u b (by omega) (by unfold xFU; omega) sta.refl hbN hz f1
  have e4 := k_tot (Γ := Γ) (h := kLam h n (Int32.ofNat L) least) (n := n + 1) (st := st) (co := co) (p := p) (u := u2) (b := b2) d r1 r3 (by rw [r2.1]; exact ho)
  rw [r2.1] at e4
  have i1 : (Int32.ofNat r = Int32.ofNat y) ↔ r = y := i_eq (by omega) (by omega)
  refine ⟨f2, u2, b2, ?_⟩
  unfold fX1_works
  rw [x_b1 (kh_2 Hm), x_b1 ((ks_sel d).trans e1), x_bc e2, x_b1 (k_foresee.trans e3)]
  by_cases c1 : r = y
  · rw [if_pos (i1.mpr c1), x_b1 e4]
    by_cases c2 : pTot M2 s (nn (N (zI s 1))) < least
    · have w : pWrk s (nn (N (zI s 1))) (nn (N (zI s 2))) (Int32.ofNat L) least y N = false := by
        rw [← Bool.not_eq_true]
        exact fun q => (r5.mp ⟨Or.inl rfl, q⟩).2 c2
      rw [if_pos c2, w]
      rfl
    · have w : pWrk s (nn (N (zI s 1))) (nn (N (zI s 2))) (Int32.ofNat L) least y N = true := (r5.mpr ⟨c1, c2⟩).2
      rw [if_neg c2, w]
      rfl
  · have w : pWrk s (nn (N (zI s 1))) (nn (N (zI s 2))) (Int32.ofNat L) least y N = false := by
      rw [← Bool.not_eq_true]
      exact fun q => c1 (r5.mp ⟨Or.inl rfl, q⟩).1
    rw [if_neg (fun q => c1 (i1.mp q)), w]
    rfl
theorem k_steady_p66 {co y : Nat} {least : Int32} (d : st ≠ co) (hy : y ≤ 30) (hy1 : 1 ≤ y) (hbN : bN N s) (hz : zN N s) : ∀ (k lo hi fu : Nat) (h : xH) (n : Nat) (f : Nat → Int32) (u b : Int32), lo ≤ hi → hi - lo ≤ 2 ^ k → hi < 1000000000 → k < fu → kHd h Y p N s → kSpN h p fe N s → (∀ a, h a ≠ none → a ≠ st ∧ a ≠ co) → xbd n h → st < n → co < n →
    ∃ h' f' u' b' dc ds, fX1_steadyTake_p66 fu (Int32.ofNat y) least (some (Y 0)) (some st) (Int32.ofNat lo) (Int32.ofNat hi) Γ (kS h st co p f u b) n = some (.inl (Int32.ofNat (pBin (fun c => pWrk s (nn (N (zI s 1))) (nn (N (zI s 2))) (Int32.ofNat c) least y N) k lo hi)), kS h' st co p f' u' b', dc, ds) ∧ dc ≤ k ∧ ds ≤ 2 * k ∧ hsub h h' ∧ (∀ a, h' a ≠ none → a ≠ st ∧ a ≠ co) ∧ xbd (n + dc) h' := by
  have z2 : ¬ Int32.ofNat 2 = Int32.ofNat 0 := by decide
  intro k
  induction k with
  | zero =>
    intro lo hi fu h n f u b h1 h2 h3 hfu H hp old hb hst hco
    obtain ⟨fu, rfl⟩ : ∃ g, fu = g + 1 := ⟨fu - 1, by omega⟩
    have c1 : Int32.ofNat hi ≤ Int32.ofNat (lo + 1) := by rw [i_le (by omega) (by omega)]; omega
    refine ⟨h, f, u, b, 0, 0, ?_, by omega, by omega, hsub.rfl, old, hb⟩
    rw [fX1_steadyTake_p66, pBin]
    simp only [i_ofNat, i_add, if_pos c1, xpure]
  | succ k ih =>
    intro lo hi fu h n f u b h1 h2 h3 hfu H hp old hb hst hco
    obtain ⟨fu, rfl⟩ : ∃ g, fu = g + 1 := ⟨fu - 1, by omega⟩
    rw [fX1_steadyTake_p66, pBin]
    by_cases c1 : hi ≤ lo + 1
    · have c1' : Int32.ofNat hi ≤ Int32.ofNat (lo + 1) := by rw [i_le (by omega) (by omega)]; omega
      rw [if_pos c1]
      refine ⟨h, f, u, b, 0, 0, ?_, by omega, by omega, hsub.rfl, old, hb⟩
      simp only [i_ofNat, i_add, if_pos c1', xpure]
    · have c1' : ¬ Int32.ofNat hi ≤ Int32.ofNat (lo + 1) := by rw [i_le (by omega) (by omega)]; omega
      rw [if_neg c1]
      have hp2 : 2 ^ (k + 1) = 2 * 2 ^ k := by rw [Nat.pow_succ, Nat.mul_comm]
      have dv : Int32.ofNat (lo + hi) / Int32.ofNat 2 = Int32.ofNat ((lo + hi) / 2) := i_div (by omega) (by decide)
      obtain ⟨f1, u1, b1, e1⟩ := k_works (Γ := Γ) (n := n) (f := f) (u := u) (b := b) (least := least) (L := (lo + hi) / 2) d H hp old hbN hz (hb n (Nat.le_refl _)) (by omega) (by omega) (by omega) hy hy1
      have hs := hsub_up (h := h) (n := n) (c := (true, .inr (1012, [.int (Int32.ofNat ((lo + hi) / 2)), .int least]))) (hb n (Nat.le_refl _))
      have old2 : ∀ a, (kLam h n (Int32.ofNat ((lo + hi) / 2)) least) a ≠ none → a ≠ st ∧ a ≠ co := by
        intro a ha
        by_cases e : a = n
        · omega
        · unfold kLam at ha
          rw [up_ne e] at ha
          exact old a ha
      have hb2 : xbd (n + 1) (kLam h n (Int32.ofNat ((lo + hi) / 2)) least) := xbd_up1 hb
      by_cases hw : pWrk s (nn (N (zI s 1))) (nn (N (zI s 2))) (Int32.ofNat ((lo + hi) / 2)) least y N = true
      · rw [hw, b2i_t] at e1
        obtain ⟨h', f', u', b', dc, ds, e2, r1, r2, r3, r4, r5⟩ := ih ((lo + hi) / 2) hi fu (kLam h n (Int32.ofNat ((lo + hi) / 2)) least) (n + 1) f1 u1 b1 (by omega) (by omega) h3 (by omega) (H.mono hs) (hp.mono hs) old2 hb2 (by omega) (by omega)
        refine ⟨h', f', u', b', 1 + dc, 2 + ds, ?_, by omega, by omega, hs.trans r3, r4, by rw [← Nat.add_assoc]; exact r5⟩
        rw [if_pos (show (fun c => pWrk s (nn (N (zI s 1))) (nn (N (zI s 2))) (Int32.ofNat c) least y N) ((lo + hi) / 2) = true from hw)]
        simp only [i_ofNat, i_add, if_neg c1', xdv, if_neg z2, xlet, dv]
        rw [x_bc e1, if_neg b2i_1]
        unfold fX1_steadyTake_p109
        rw [e2]
        rfl
      · rw [Bool.not_eq_true] at hw
        rw [hw, b2i_f] at e1
        obtain ⟨h', f', u', b', dc, ds, e2, r1, r2, r3, r4, r5⟩ := ih lo ((lo + hi) / 2) fu (kLam h n (Int32.ofNat ((lo + hi) / 2)) least) (n + 1) f1 u1 b1 (by omega) (by omega) (by omega) (by omega) (H.mono hs) (hp.mono hs) old2 hb2 (by omega) (by omega)
        refine ⟨h', f', u', b', 1 + dc, 2 + ds, ?_, by omega, by omega, hs.trans r3, r4, by rw [← Nat.add_assoc]; exact r5⟩
        rw [if_neg (show ¬ (fun c => pWrk s (nn (N (zI s 1))) (nn (N (zI s 2))) (Int32.ofNat c) least y N) ((lo + hi) / 2) = true from fun q => by rw [show (fun c => pWrk s (nn (N (zI s 1))) (nn (N (zI s 2))) (Int32.ofNat c) least y N) ((lo + hi) / 2) = false from hw] at q; cases q)]
        simp only [i_ofNat, i_add, if_neg c1', xdv, if_neg z2, xlet, dv]
        rw [x_bc e1, if_pos rfl]
        unfold fX1_steadyTake_p109
        rw [e2]
        rfl
variable {x al ae pl sd : Nat} {E : Nat → Nat → Nat} {P FE : Nat → Nat} {t : Nat}
theorem k_steady1 {y ad : Nat} {least : Int32} (W : kW h x sd al ae pl E P FE N) (ht : t < nn (N 0)) (hb : xbd n h) (hbN : bN N t) (hy1 : 1 ≤ y) (hy : y ≤ 30) (hl : Int32.ofNat 0 ≤ least) (had : pAdl N t (nn (N (zI t 2))) (nn (N (zI t 1))) = Int32.ofNat ad) (had' : ad < 16000000) : ∃ h' dc ds, fX1_steadyTake x (Int32.ofNat t) (Int32.ofNat y) least Γ h n = some (.inl (if pWrk t (nn (N (zI t 1))) (nn (N (zI t 2))) (Int32.ofNat 0) least y N then Int32.ofNat (pBin (fun c => pWrk t (nn (N (zI t 1))) (nn (N (zI t 2))) (Int32.ofNat c) least y N) 24 0 (ad + 1)) else -Int32.ofNat 1), h', dc, ds) ∧ dc ≤ 27 ∧ ds ≤ 67 ∧ hsub h h' ∧ xbd (n + dc) h' := by
  have b := kw_12 W ht
  have H := kw_hd W ht
  have hp := kw_sp W ht
  have d : n ≠ n + 1 := by omega
  have old : ∀ a, h a ≠ none → a ≠ n ∧ a ≠ n + 1 := fun a ha => by have := xbd_lt hb ha; omega
  obtain ⟨g, u, c, e1, f1⟩ := k_thought (Γ := Γ) H hb
  obtain ⟨f2, u2, b2, e2⟩ := k_works (Γ := Γ) (n := n + 2) (st := n) (co := n + 1) (f := g) (u := u) (b := c) (least := least) (L := 0) d H hp old hbN (kw_z W ht) (hb (n + 2) (by omega)) (by omega) (by omega) (by omega) hy hy1
  have c1 : decide (Int32.ofNat 1 ≤ Int32.ofNat y ∧ Int32.ofNat y ≤ Int32.ofNat 30) = true := decide_eq_true ((i_rngI (by decide) (by decide)).mpr (by rw [i_toInt (by omega)]; omega))
  have c2 : ¬ least < Int32.ofNat 0 := Int32.not_lt.mpr hl
  have hs := hsub_up (h := h) (n := n + 2) (c := (true, .inr (1012, [.int (Int32.ofNat 0), .int least]))) (hb (n + 2) (by omega))
  have old2 : ∀ a, (kLam h (n + 2) (Int32.ofNat 0) least) a ≠ none → a ≠ n ∧ a ≠ n + 1 := by
    intro a ha
    by_cases e : a = n + 2
    · omega
    · unfold kLam at ha
      rw [up_ne e] at ha
      exact old a ha
  have hb2 : xbd (n + 2 + 1) (kLam h (n + 2) (Int32.ofNat 0) least) := by
    intro a ha
    unfold kLam
    rw [up_ne (by omega)]
    exact hb a (by omega)
  have Hm : kHd (kS (kLam h (n + 2) (Int32.ofNat 0) least) n (n + 1) (P t) f2 u2 b2) (E t) (P t) N t := (H.mono hs).mono (k_old old2)
  have hpm : kSpN (kS (kLam h (n + 2) (Int32.ofNat 0) least) n (n + 1) (P t) f2 u2 b2) (P t) (FE t) N t := (hp.mono hs).mono (k_old old2)
  have i30 : (30 : Int32) = Int32.ofNat 30 := rfl
  have i1 : (1 : Int32) = Int32.ofNat 1 := rfl
  have i0 : (0 : Int32) = Int32.ofNat 0 := rfl
  unfold fX1_steadyTake
  rw [x_b1 ((kw_x W).trans (k_herd1 W ht)), i30, i1, x_b1 (k_inRange _ _ _), c1, b2i_t, i0, if_neg b2i_1, if_neg c2]
  unfold fX1_steadyTake_p26
  rw [x_b1 k_carg1, x_bc e1, i0, x_bc e2]
  cases hw : pWrk t (nn (N (zI t 1))) (nn (N (zI t 2))) (Int32.ofNat 0) least y N with
  | false =>
    rw [b2i_f, if_pos rfl, if_neg (by decide)]
    refine ⟨kS (kLam h (n + 2) (Int32.ofNat 0) least) n (n + 1) (P t) f2 u2 b2, 3, 19, rfl, by omega, by omega, hs.trans (k_old old2), fun a ha => ?_⟩
    rw [ks_o (by omega) (by omega)]
    exact hb2 a (by omega)
  | true =>
    rw [b2i_t, if_neg b2i_1, if_pos rfl]
    obtain ⟨h', f', u', b', dc, ds, e3, r1, r2, r3, r4, r5⟩ := k_steady_p66 (Γ := Γ) (st := n) (co := n + 1) (least := least) d hy hy1 hbN (kw_z W ht) 24 0 (ad + 1) xFU (kLam h (n + 2) (Int32.ofNat 0) least) (n + 2 + 1) f2 u2 b2 (by omega) (by omega) (by omega) (by unfold xFU; omega) (H.mono hs) (hp.mono hs) old2 hb2 (by omega) (by omega)
    refine ⟨kS h' n (n + 1) (P t) f' u' b', 3 + dc, 19 + ds, ?_, by omega, by omega, (hs.trans r3).trans (k_old r4), fun a ha => ?_⟩
    · dsimp only [xlet]
      rw [x_b1 (kh_2 Hm), x_b1 (kh_adults Hm hpm), had, i1, i_add, e3]
      show some (_, _, 2 + (1 + dc), 17 + (2 + ds)) = _
      rw [show 2 + (1 + dc) = 3 + dc by omega, show 17 + (2 + ds) = 19 + ds by omega]
    · rw [ks_o (by omega) (by omega)]
      exact r5 a (by omega)
theorem k_steady0 (W : kW h x sd al ae pl E P FE N) {p q r : Int32} (hp : ¬ vS N p) : fX1_steadyTake x p q r Γ h n = some (.inr n, kNx h n 8, 1, 6) := by
  simp only [fX1_steadyTake, xbind, kw_x W, k_herd0 W hp]
theorem k_steady2 (W : kW h x sd al ae pl E P FE N) (ht : t < nn (N 0)) {q r : Int32} (hq : ¬ ((1 ≤ q.toInt ∧ q.toInt ≤ 30) ∧ Int32.ofNat 0 ≤ r)) : fX1_steadyTake x (Int32.ofNat t) q r Γ h n = some (.inr n, kNx h n 3, 1, 6) := by
  have i30 : (30 : Int32) = Int32.ofNat 30 := rfl
  have i1 : (1 : Int32) = Int32.ofNat 1 := rfl
  have i0 : (0 : Int32) = Int32.ofNat 0 := rfl
  unfold fX1_steadyTake
  rw [x_b1 ((kw_x W).trans (k_herd1 W ht)), i30, i1, x_b1 (k_inRange _ _ _), i0]
  by_cases c1 : Int32.ofNat 1 ≤ q ∧ q ≤ Int32.ofNat 30
  · rw [decide_eq_true c1, b2i_t, if_neg b2i_1]
    have c2 : r < Int32.ofNat 0 := Int32.not_le.mp (fun z => hq ⟨(i_rngI (by decide) (by decide)).mp c1, z⟩)
    rw [if_pos c2]
    unfold fX1_steadyTake_p25 fX1_steadyTake_p26
    rw [i0, x_bx k_carg0]
  · rw [decide_eq_false c1, b2i_f, if_pos rfl]
    unfold fX1_steadyTake_p25 fX1_steadyTake_p26
    rw [i0, x_bx k_carg0]
end KU
