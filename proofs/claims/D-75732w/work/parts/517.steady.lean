/-! part 517: the component: steadyTake -/
def nsum (g : Nat → Nat) : Nat → Nat → Nat
  | _, 0 => 0
  | x, k + 1 => g x + nsum g (x + 1) k
theorem nsum_top (g : Nat → Nat) : ∀ (k x : Nat), nsum g x (k + 1) = nsum g x k + g (x + k) := by
  intro k
  induction k with
  | zero => intro x; simp only [nsum, Nat.add_zero, Nat.zero_add]
  | succ k ih =>
    intro x
    rw [nsum, ih (x + 1), nsum, show x + 1 + k = x + (k + 1) by omega]
    omega
theorem nsum_congr {g g' : Nat → Nat} : ∀ (k x : Nat), (∀ j, x ≤ j → j < x + k → g j = g' j) → nsum g x k = nsum g' x k := by
  intro k
  induction k with
  | zero => intro x _; rfl
  | succ k ih =>
    intro x hf
    rw [nsum, nsum, hf x (by omega) (by omega), ih (x + 1) (fun j a b => hf j (by omega) (by omega))]
theorem isum_ns {f : Nat → Int32} : ∀ (k x : Nat), (∀ j, x ≤ j → j < x + k → nN (f j)) → isum f x k = Int32.ofNat (nsum (fun j => nn (f j)) x k) := by
  intro k
  induction k with
  | zero => intro x _; rfl
  | succ k ih =>
    intro x hf
    have h1 := hf x (by omega) (by omega)
    unfold nN at h1
    rw [isum, nsum, ih (x + 1) (fun j a b => hf j (by omega) (by omega)), ← i_add, ← h1]
theorem nsum_le {g : Nat → Nat} {M : Nat} : ∀ (k x : Nat), (∀ j, x ≤ j → j < x + k → g j ≤ M) → nsum g x k ≤ k * M := by
  intro k
  induction k with
  | zero => intro x _; simp [nsum]
  | succ k ih =>
    intro x hf
    have h1 := hf x (by omega) (by omega)
    have h2 := ih (x + 1) (fun j a b => hf j (by omega) (by omega))
    rw [nsum, Nat.succ_mul]
    omega
theorem imin_nat {a b : Nat} (ha : a < 2147483648) (hb : b < 2147483648) : imin (Int32.ofNat a) (Int32.ofNat b) = Int32.ofNat (min a b) := by
  unfold imin
  by_cases c : b < a
  · rw [if_pos ((i_lt hb ha).mpr c), Nat.min_eq_right (by omega)]
  · rw [if_neg (fun q => c ((i_lt hb ha).mp q)), Nat.min_eq_left (by omega)]
theorem bN.coh {M : Nat → Int32} {s x v : Nat} (hb : bN M s) (hx : x < 13) (hv : v ≤ 1000000) : bN (va_up M (zI s (39 + x)) (Int32.ofNat v)) s := by
  refine ⟨fun j hj => ⟨?_, ?_, ?_⟩, ?_⟩
  · by_cases c : j = x
    · subst c
      rw [va_up_self]
      exact ⟨nN_of _ (by omega), by rw [nn_of (by omega)]; exact hv⟩
    · rw [va_up_ne _ _ (by unfold zI; omega)]
      exact (hb.1 j hj).1
  · rw [va_up_ne _ _ (by unfold zI; omega)]
    exact (hb.1 j hj).2.1
  · rw [va_up_ne _ _ (by unfold zI; omega)]
    exact (hb.1 j hj).2.2
  · rw [va_up_ne _ _ (by unfold zI; omega)]
    exact hb.2
theorem sta.coh {M : Nat → Int32} {s x : Nat} {v : Int32} : sta M (va_up M (zI s (39 + x)) v) s :=
  ⟨va_up_ne _ _ (by unfold zI; omega), va_up_ne _ _ (by unfold zI; omega), va_up_ne _ _ (by unfold zI; omega), fun j hj => va_up_ne _ _ (by unfold zI; omega)⟩
theorem zN.coh {M : Nat → Int32} {s x : Nat} {v : Int32} (hz : zN M s) (hx : x ≤ nn (M (zI s 1))) : zN (va_up M (zI s (39 + x)) v) s := by
  intro j hj h1
  rw [va_up_ne _ _ (by unfold zI; omega)] at h1
  rw [va_up_ne _ _ (by unfold zI; omega)]
  exact hz j hj h1
/-- the oldest adults are taken: what is left to take, what is as it should be -/
theorem pTO_all {s : Nat} : ∀ (k x : Nat) (M : Nat → Int32) (L : Nat), k ≤ x + 1 → x ≤ nn (M (zI s 1)) → nn (M (zI s 1)) ≤ 12 → L < 2147483648 → bN M s → zN M s →
    (pTO s k x M (Int32.ofNat L)).2 = Int32.ofNat (L - nsum (fun j => nn (M (zI s (39 + j)))) (x + 1 - k) k) ∧ bN (pTO s k x M (Int32.ofNat L)).1 s ∧ zN (pTO s k x M (Int32.ofNat L)).1 s ∧ sta M (pTO s k x M (Int32.ofNat L)).1 s := by
  intro k
  induction k with
  | zero => intro x M L _ _ _ _ hb hz; exact ⟨by rw [nsum]; rfl, hb, hz, sta.refl⟩
  | succ k ih =>
    intro x M L hk hx h12 hL hb hz
    have hc := (hb.1 x (by omega)).1
    have hc1 := hc.1
    unfold nN at hc1
    have hm : imin (Int32.ofNat L) (M (zI s (39 + x))) = Int32.ofNat (min L (nn (M (zI s (39 + x))))) := by
      have := imin_nat hL (show nn (M (zI s (39 + x))) < 2147483648 by omega)
      rw [← hc1] at this
      exact this
    have e1 : M (zI s (39 + x)) - Int32.ofNat (min L (nn (M (zI s (39 + x))))) = Int32.ofNat (nn (M (zI s (39 + x))) - min L (nn (M (zI s (39 + x))))) := by
      have := i_sub (a := nn (M (zI s (39 + x)))) (b := min L (nn (M (zI s (39 + x))))) (by omega)
      rw [← hc1] at this
      exact this
    have e2 : Int32.ofNat L - Int32.ofNat (min L (nn (M (zI s (39 + x))))) = Int32.ofNat (L - nn (M (zI s (39 + x)))) := by
      rw [i_sub (by omega)]
      congr 1
      omega
    rw [pTO, hm, e1, e2]
    have st1 := sta.coh (M := M) (s := s) (x := x) (v := Int32.ofNat (nn (M (zI s (39 + x))) - min L (nn (M (zI s (39 + x))))))
    by_cases hx0 : x = 0
    · subst hx0
      obtain rfl : k = 0 := by omega
      refine ⟨?_, hb.coh (by omega) (by omega), hz.coh (by omega), st1⟩
      show Int32.ofNat _ = _
      simp only [nsum, Nat.add_zero, Nat.zero_add, Nat.sub_self]
    · obtain ⟨a1, a2, a3, a4⟩ := ih (x - 1) (va_up M (zI s (39 + x)) (Int32.ofNat (nn (M (zI s (39 + x))) - min L (nn (M (zI s (39 + x))))))) (L - nn (M (zI s (39 + x)))) (by omega) (by rw [st1.1]; omega) (by rw [st1.1]; omega) (by omega) (hb.coh (by omega) (by omega)) (hz.coh hx)
      refine ⟨?_, a2, a3, st1.trans a4⟩
      rw [a1, nsum_top, nsum_congr (g := fun j => nn (va_up M (zI s (39 + x)) (Int32.ofNat (nn (M (zI s (39 + x))) - min L (nn (M (zI s (39 + x)))))) (zI s (39 + j)))) (g' := fun j => nn (M (zI s (39 + j)))) k (x - 1 + 1 - k) (fun j h1 h2 => by rw [va_up_ne _ _ (by unfold zI; omega)])]
      have q1 : x - 1 + 1 - k = x + 1 - (k + 1) := by omega
      have q2 : x + 1 - (k + 1) + k = x := by omega
      rw [q1, q2]
      congr 1
      omega
theorem pAdl_ns {M : Nat → Int32} {s a o : Nat} (hb : bN M s) (ho : o ≤ 12) (ha : a ≤ o) : pAdl M s a o = Int32.ofNat (nsum (fun j => nn (M (zI s (39 + j)))) a (o + 1 - a)) ∧ nsum (fun j => nn (M (zI s (39 + j)))) a (o + 1 - a) ≤ 13000000 := by
  refine ⟨isum_ns _ _ (fun j h1 h2 => ((hb.1 j (by omega)).1).1), ?_⟩
  have := nsum_le (g := fun j => nn (M (zI s (39 + j)))) (M := 1000000) (o + 1 - a) a (fun j h1 h2 => ((hb.1 j (by omega)).1).2)
  have h13 : (o + 1 - a) * 1000000 ≤ 13 * 1000000 := Nat.mul_le_mul_right _ (by omega)
  omega
/-- whether so many were taken -/
theorem pTO_can {M : Nat → Int32} {s a L : Nat} (hb : bN M s) (hz : zN M s) (ho : nn (M (zI s 1)) ≤ 12) (ha : a ≤ nn (M (zI s 1))) (hL : L < 2147483648) : (pTO s (nn (M (zI s 1)) + 1 - a) (nn (M (zI s 1))) M (Int32.ofNat L)).2 = Int32.ofNat 0 ↔ ¬ pAdl M s a (nn (M (zI s 1))) < Int32.ofNat L := by
  obtain ⟨e, h13⟩ := pAdl_ns (a := a) hb ho ha
  rw [(pTO_all (nn (M (zI s 1)) + 1 - a) (nn (M (zI s 1))) M L (by omega) (Nat.le_refl _) ho hL hb hz).1, e, show nn (M (zI s 1)) + 1 - (nn (M (zI s 1)) + 1 - a) = a by omega, i_lt (by omega) hL, i_eq (by omega) (by decide)]
  omega
section KT
variable {Γ : Nat → Option Nat} {h : xH} {n st : Nat} {Y : Nat → Nat} {p fe s : Nat} {N : Nat → Int32}
theorem fN.up {f M : Nat → Int32} {x : Nat} {v : Int32} (hf : fN f M s) : fN (va_up f x v) (va_up M (zI s (39 + x)) v) s := by
  intro j hj
  by_cases c : j = x
  · subst c
    rw [va_up_self, va_up_self]
  · rw [va_up_ne _ _ c, va_up_ne _ _ (by unfold zI; omega)]
    exact hf j hj
theorem k_takeA_p10 {co o a : Nat} {u b : Int32} (d : st ≠ co) (hp : kSp h p fe o a) (o1 : p ≠ st) (o2 : p ≠ co) : ∀ (k z fu : Nat) (M f : Nat → Int32) (left : Int32), a + k = z → z ≤ o + 1 → k < fu → fN f M s →
    ∃ f', fX10_takeAdults_p10 fu st left (Int32.ofNat z + -Int32.ofNat 1) Γ (kS h st co p f u b) n = some (.inl (), kS h st co p f' u b, 0, 0) ∧ fN f' (pTO s k (z - 1) M left).1 s := by
  have ho := hp.2.2.2.2.2.2.1
  have ea : ∀ (g : Nat → Int32), xgI 20 3 (some p) Γ (kS h st co p g u b) n = some (.inl (Int32.ofNat a), kS h st co p g u b, 0, 0) := by
    intro g
    have hc := ks_o (h := h) (p := p) (f := g) (u := u) (b := b) o1 o2
    rw [e_gI ((yO_c hc).mpr hp.1) kn20_3, yi_c hc, hp.2.2.1]
  intro k
  induction k with
  | zero =>
    intro z fu M f left hz hzo hfu hf
    obtain ⟨fu, rfl⟩ : ∃ g, fu = g + 1 := ⟨fu - 1, by omega⟩
    have c1 : Int32.ofNat z + -Int32.ofNat 1 < Int32.ofNat a := by rw [i_lt1 (by omega) (by omega)]; omega
    refine ⟨f, ?_, hf⟩
    rw [fX10_takeAdults_p10]
    simp only [xbind, ks_g0 d, ea, if_pos c1, xpure, Nat.add_zero]
  | succ k ih =>
    intro z fu M f left hz hzo hfu hf
    obtain ⟨fu, rfl⟩ : ∃ g, fu = g + 1 := ⟨fu - 1, by omega⟩
    have c1 : ¬ Int32.ofNat z + -Int32.ofNat 1 < Int32.ofNat a := by rw [i_lt1 (by omega) (by omega)]; omega
    have m1 : Int32.ofNat z + -Int32.ofNat 1 = Int32.ofNat (z - 1) := i_addneg (by omega)
    have hfz := hf (z - 1) (by omega)
    rw [m1] at c1 ⊢
    obtain ⟨f', e1, r1⟩ := ih (z - 1) fu (va_up M (zI s (39 + (z - 1))) (M (zI s (39 + (z - 1))) - imin left (M (zI s (39 + (z - 1)))))) (va_up f (z - 1) (M (zI s (39 + (z - 1))) - imin left (M (zI s (39 + (z - 1)))))) (left - imin left (M (zI s (39 + (z - 1))))) (by omega) (by omega) (by omega) hf.up
    refine ⟨f', ?_, r1⟩
    rw [fX10_takeAdults_p10]
    simp only [xbind, xlet, ks_g0 d, ks_g1 d, ea, if_neg c1, ks_l (show z - 1 < 13 by omega), hfz, i_im, ks_s (show z - 1 < 13 by omega), i_ofNat, e1, Nat.add_zero]
theorem k_takeA {co o a : Nat} {M f : Nat → Int32} {u b num : Int32} (d : st ≠ co) (hp : kSp h p fe o a) (o1 : p ≠ st) (o2 : p ≠ co) (hf : fN f M s) : ∃ f', fX10_takeAdults st num Γ (kS h st co p f u b) n = some (.inl (), kS h st co p f' u b, 0, 0) ∧ fN f' (pTO s (o + 1 - a) o M num).1 s := by
  have ho := hp.2.2.2.2.2.2.1
  have ha := hp.2.2.2.2.2.2.2
  obtain ⟨f', e1, r1⟩ := k_takeA_p10 (Γ := Γ) (n := n) (s := s) (u := u) (b := b) d hp o1 o2 (o + 1 - a) (o + 1) xFU M f num (by omega) (by omega) (by unfold xFU; omega) hf
  have m1 : Int32.ofNat (o + 1) + -Int32.ofNat 1 = Int32.ofNat o := by rw [i_addneg (by omega)]; rfl
  rw [m1] at e1
  rw [Nat.add_sub_cancel] at r1
  refine ⟨f', ?_, r1⟩
  have eo : xgI 20 1 (some p) Γ (kS h st co p f u b) n = some (.inl (Int32.ofNat o), kS h st co p f u b, 0, 0) := by
    have hc := ks_o (h := h) (p := p) (f := f) (u := u) (b := b) o1 o2
    rw [e_gI ((yO_c hc).mpr hp.1) kn20_1, yi_c hc, hp.2.1]
  simp only [fX10_takeAdults, xbind, ks_g0 d, eo, e1, Nat.add_zero]
theorem k_adl {co a o : Nat} {f M : Nat → Int32} {u b : Int32} (d : st ≠ co) (hp : kSp h p fe o a) (o1 : p ≠ st) (o2 : p ≠ co) (q1 : fe ≠ st) (q2 : fe ≠ co) (hf : fN f M s) : xsel (some st) [(24, fun z => fX10_adults z)] Γ (kS h st co p f u b) n = some (.inl (pAdl M s a o), kS h st co p f u b, 0, 0) := by
  have ho := hp.2.2.2.2.2.2.1
  have hp2 := hp.cg (g := kS h st co p f u b) (ks_o o1 o2) (ks_o q1 q2)
  rw [ks_sel d, k_adults (ks_St d) hp2, ks_li, isum_congr (f := f) (g := fun x => M (zI s (39 + x))) _ _ (fun j _ hj => hf j (by omega))]
  rfl
theorem k_fore12 {co la y L : Nat} {least : Int32} (d : st ≠ co) (H : kHd h Y p N s) (hp : kSpN h p fe N s) (old : ∀ a, h a ≠ none → a ≠ st ∧ a ≠ co) (hla : yO h 1012 la) (hl0 : yi h 1012 0 la = Int32.ofNat L) (hl1 : yi h 1012 1 la = least) (hL : L < 2147483648) (hy : y ≤ 30) (hy1 : 1 ≤ y) : ∀ (k x fu : Nat) (M f : Nat → Int32) (u b : Int32), x + k = y → k < fu → sta N M s → bN M s → zN M s → fN f M s →
    ∃ f' u' b' M' r, fX1_foresee_p3 fu (some (Y 0)) (some st) (Int32.ofNat y) (some la) (Int32.ofNat x) Γ (kS h st co p f u b) n = some (.inl (Int32.ofNat r), kS h st co p f' u' b', 0, 0) ∧ fN f' M' s ∧ sta N M' s ∧ zN M' s ∧ r ≤ y ∧ (((x = 0 ∨ ¬ pTot M s (nn (N (zI s 1))) < least) ∧ pWrk s (nn (N (zI s 1))) (nn (N (zI s 2))) (Int32.ofNat L) least k M = true) ↔ (r = y ∧ ¬ pTot M' s (nn (N (zI s 1))) < least)) := by
  have ho := hp.1.2.2.2.2.2.2.1
  have ha := hp.1.2.2.2.2.2.2.2
  have o1 := old _ (yO_at hp.1.1)
  have o2 := old _ (yA_at hp.1.2.2.2.2.1)
  intro k
  induction k with
  | zero =>
    intro x fu M f u b hx hfu hs hbM hz hf
    obtain ⟨fu, rfl⟩ : ∃ g, fu = g + 1 := ⟨fu - 1, by omega⟩
    obtain rfl : x = y := by omega
    have c1 : Int32.ofNat x ≤ Int32.ofNat x := by rw [i_le (by omega) (by omega)]; omega
    refine ⟨f, u, b, M, x, ?_, hf, hs, hz, Nat.le_refl _, ?_⟩
    · rw [fX1_foresee_p3]
      simp only [if_pos c1, xpure]
    · rw [pWrk]
      constructor
      · rintro ⟨h1 | h1, -⟩
        · omega
        · exact ⟨rfl, h1⟩
      · rintro ⟨-, h1⟩
        exact ⟨Or.inr h1, rfl⟩
  | succ k ih =>
    intro x fu M f u b hx hfu hs hbM hz hf
    obtain ⟨fu, rfl⟩ : ∃ g, fu = g + 1 := ⟨fu - 1, by omega⟩
    have c1 : ¬ Int32.ofNat y ≤ Int32.ofNat x := by rw [i_le (by omega) (by omega)]; omega
    have hsub := k_old (p := p) (f := f) (u := u) (b := b) old
    have el := hsub _ (yO_at hla)
    have hl := (yO_c el).mpr hla
    have hl2 := (yi_c (k := 0) el).trans hl0
    have hl3 := (yi_c (k := 1) el).trans hl1
    have e0 := k_tot (Γ := Γ) (h := h) (n := n) (st := st) (co := co) (p := p) (u := u) (b := b) d hf hz (by rw [hs.1]; exact ho)
    rw [hs.1] at e0
    have ea := k_adl (Γ := Γ) (n := n) (u := u) (b := b) d hp.1 o1.1 o1.2 o2.1 o2.2 hf
    have can := pTO_can (a := nn (N (zI s 2))) (L := L) hbM hz (by rw [hs.1]; exact ho) (by rw [hs.1]; exact ha) hL
    rw [hs.1] at can
    have nx : (Int32.ofNat x = Int32.ofNat 0) ↔ x = 0 := i_eq (by omega) (by decide)
    by_cases a1 : pAdl M s (nn (N (zI s 2))) (nn (N (zI s 1))) < Int32.ofNat L
    · refine ⟨f, u, b, M, x, ?_, hf, hs, hz, by omega, ?_⟩
      · rw [fX1_foresee_p3]
        simp only [if_neg c1, xbind, e_sel2 hl (show (1012 : Nat) ≠ 1010 by decide), e_sel2 hl (show (1012 : Nat) ≠ 1011 by decide), e_sel hl, fL_12, fX1_lambda_works_12, e_gI hl kn1012_0, e_gI hl kn1012_1, hl2, hl3, ea, if_pos a1, fX1_lambda_works_12_p24, fX1_lambda_works_12_p25, i_ofNat, if_true, x_ret0, xpure, Nat.add_zero]
      · constructor
        · rintro ⟨-, h2⟩
          rw [pWrk] at h2
          split at h2
          · rename_i hh
            exact absurd a1 (can.mp hh.1)
          · cases h2
        · rintro ⟨h1, -⟩
          omega
    · by_cases a2 : x = 0 ∨ ¬ pTot M s (nn (N (zI s 1))) < least
      · obtain ⟨f1, e1, hf1⟩ := k_takeA (Γ := Γ) (n := n) (u := u) (b := b) (num := Int32.ofNat L) d hp.1 o1.1 o1.2 hf
        obtain ⟨-, b1, z1, s1⟩ := pTO_all (s := s) (nn (N (zI s 1)) + 1 - nn (N (zI s 2))) (nn (N (zI s 1))) M L (by omega) (by rw [hs.1]; exact Nat.le_refl _) (by rw [hs.1]; exact ho) hL hbM hz
        obtain ⟨f2, u2, b2, e2, hf2⟩ := k_year (Γ := Γ) (n := n) (u := u) (b := b) d H hp ho old (hs.trans s1) b1 hf1
        obtain ⟨f3, u3, b3, M3, r, e3, r1, r2, r3, r4, r5⟩ := ih (x + 1) fu _ f2 u2 b2 (by omega) (by omega) ((hs.trans s1).trans (pAges_sta ho)) (b1.ages ho) (z1.ages ho (by rw [s1.1, hs.1])) hf2
        have hm : ∀ f1 : Nat → Int32, kHd (kS h st co p f1 u b) Y p N s := fun f1 => H.mono (k_old (p := p) (f := f1) (u := u) (b := b) old)
        refine ⟨f3, u3, b3, M3, r, ?_, r1, r2, r3, r4, ?_⟩
        · have lam : fX1_lambda_works_12 (Int32.ofNat L) least (Int32.ofNat x) (some st) Γ (kS h st co p f u b) n = some (.inl (Int32.ofNat 1), kS h st co p f1 u b, 0, 0) := by
            by_cases a3 : x = 0
            · simp only [fX1_lambda_works_12, xbind, ea, if_neg a1, i_ofNat, nx, if_pos a3, fX1_lambda_works_12_p20, fX1_lambda_works_12_p25, if_neg b2i_1, ks_sel d, e1, x_ret1, xpure, Nat.add_zero]
            · have a4 : ¬ pTot M s (nn (N (zI s 1))) < least := by
                rcases a2 with a2 | a2
                · exact absurd a2 a3
                · exact a2
              simp only [fX1_lambda_works_12, xbind, ea, if_neg a1, i_ofNat, nx, if_neg a3, e0, if_neg a4, fX1_lambda_works_12_p20, fX1_lambda_works_12_p25, if_neg b2i_1, ks_sel d, e1, x_ret1, xpure, Nat.add_zero]
          rw [fX1_foresee_p3]
          simp only [if_neg c1, xbind, xlet, e_sel2 hl (show (1012 : Nat) ≠ 1010 by decide), e_sel2 hl (show (1012 : Nat) ≠ 1011 by decide), e_sel hl, fL_12, e_gI hl kn1012_0, e_gI hl kn1012_1, hl2, hl3, lam, x_ret1, xpure, i_ofNat, if_neg b2i_1, kh_1 (hm f1), kh_3 (hm f1), ks_sel d, e2, i_add, e3, Nat.add_zero]
        · rw [← r5, pWrk]
          have t0 := can.mpr a1
          constructor
          · rintro ⟨-, h2⟩
            split at h2
            · rename_i hh
              exact ⟨Or.inr hh.2, h2⟩
            · cases h2
          · rintro ⟨h1 | h1, h2⟩
            · omega
            · exact ⟨a2, by rw [if_pos ⟨t0, h1⟩]; exact h2⟩
      · have a3 : ¬ x = 0 := fun q => a2 (Or.inl q)
        have a4 : pTot M s (nn (N (zI s 1))) < least := Decidable.byContradiction (fun q => a2 (Or.inr q))
        refine ⟨f, u, b, M, x, ?_, hf, hs, hz, by omega, ?_⟩
        · rw [fX1_foresee_p3]
          simp only [if_neg c1, xbind, e_sel2 hl (show (1012 : Nat) ≠ 1010 by decide), e_sel2 hl (show (1012 : Nat) ≠ 1011 by decide), e_sel hl, fL_12, fX1_lambda_works_12, e_gI hl kn1012_0, e_gI hl kn1012_1, hl2, hl3, ea, if_neg a1, i_ofNat, nx, if_neg a3, e0, if_pos a4, fX1_lambda_works_12_p24, fX1_lambda_works_12_p25, if_true, x_ret0, xpure, Nat.add_zero]
        · constructor
          · rintro ⟨h1, -⟩
            exact absurd h1 a2
          · rintro ⟨h1, -⟩
            omega
end KT
