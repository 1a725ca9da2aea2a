/-! part 520: the component: sighting, estimate, variance, pooled -/
section KS2
variable {Γ : Nat → Option Nat} {h : xH} {n : Nat} {N : Nat → Int32} {x al ae pl sd : Nat} {E : Nat → Nat → Nat} {P FE : Nat → Nat} {t : Nat}
theorem k_there1 : fX1_checkThere (Int32.ofNat 1) Γ h n = some (.inl (), h, 0, 0) := by
  unfold fX1_checkThere
  simp only [i_ofNat, if_neg b2i_1, xpure]
theorem k_there0 : fX1_checkThere (Int32.ofNat 0) Γ h n = some (.inr n, kNx h n 10, 1, 6) := by
  unfold fX1_checkThere
  simp only [i_ofNat, if_true]
  exact k_throw
theorem kNx_sub {ci : Nat} (hn : h n = none) : hsub h (kNx h n ci) := hsub_up hn
theorem k_part {q w : Nat} {Q : List Nat} {s : Nat} (hg : kSg h Q N s) (hq : q < Q.length) (hw : w ≤ 3) : xsel (some Q[q]) [(37, fun z => fX17_part z (Int32.ofNat w))] Γ h n = some (.inl (pSg N s q w), h, 0, 0) := by
  have o := (hg.2.2 q hq).1
  have v := (hg.2.2 q hq).2
  have i1 : ∀ c, c < 100 → ((Int32.ofNat w = Int32.ofNat c) ↔ w = c) := fun c hc => i_eq (by omega) (by omega)
  rw [e_sel o]
  unfold fX17_part pSg
  simp only [i_ofNat, i1 0 (by omega), i1 1 (by omega), i1 2 (by omega)]
  by_cases c0 : w = 0
  · subst c0
    simp only [if_true, xbind, xpure, e_gI o kn37_0, v 0 (by omega), Nat.add_zero]
  by_cases c1 : w = 1
  · subst c1
    simp only [if_neg c0, if_true, xbind, xpure, e_gI o kn37_1, v 1 (by omega), Nat.add_zero]
  by_cases c2 : w = 2
  · subst c2
    simp only [if_neg c0, if_neg c1, if_true, xbind, xpure, e_gI o kn37_2, v 2 (by omega), Nat.add_zero]
  · obtain rfl : w = 3 := by omega
    simp only [if_neg c0, if_neg c1, if_neg c2, xbind, xpure, e_gI o kn37_3, v 3 (by omega), Nat.add_zero]
theorem kSg.mono {g : xH} {Q : List Nat} {s : Nat} (H : kSg h Q N s) (hs : hsub h g) : kSg g Q N s := H.cg (fun q hq => hs _ (yO_at hq))
/-- the number of sightings is that of the list -/
theorem kSg.len {Q : List Nat} {s g : Nat} (H : kSg h Q N s) (hg : N (zI s 12) = Int32.ofNat g) (h20 : g ≤ 20) : Q.length = g := by
  have h1 := H.2.1
  have h2 := H.1
  rw [hg] at h2
  exact ((i_eq (by omega) (by omega)).mp h2).symm
theorem k_sighting1 {g k w : Nat} (W : kW h x sd al ae pl E P FE N) (ht : t < nn (N 0)) (hb : xbd n h) (hg : N (zI t 12) = Int32.ofNat g) (h20 : g ≤ 20) (hw : w ≤ 3) (hk : k < g) : ∃ h', fX1_sighting x (Int32.ofNat t) (Int32.ofNat k) (Int32.ofNat w) Γ h n = some (.inl (pSg N t k w), h', 1, 4) ∧ hsub h h' ∧ xbd (n + 1) h' := by
  obtain ⟨Q, h', q1, e1, hs, hb'⟩ := k_sightAt (Γ := Γ) W ht hb (Int32.ofNat k)
  have ql := q1.len hg h20
  have ek : (Int32.ofNat k).toInt = (k : Int) := i_toInt (by omega)
  have hkQ : k < Q.length := by omega
  rw [ek, if_pos (by omega), show ((k : Int)).toNat = k from rfl, List.getElem?_eq_getElem hkQ] at e1
  have c1 : decide (Int32.ofNat 0 ≤ Int32.ofNat w ∧ Int32.ofNat w ≤ Int32.ofNat 3) = true := decide_eq_true ((i_rngI (by decide) (by decide)).mpr (by rw [i_toInt (by omega)]; omega))
  have i3 : (3 : Int32) = Int32.ofNat 3 := rfl
  have i0 : (0 : Int32) = Int32.ofNat 0 := rfl
  refine ⟨h', ?_, hs, hb'⟩
  unfold fX1_sighting
  rw [x_bc ((kw_x W).trans e1), i0, i3, x_b1 (k_inRange _ _ _), c1, b2i_t, x_b1 k_there1, if_neg (fun z => nomatch z), x_b1 (k_part (q1.mono hs) hkQ hw)]
  rfl
theorem k_sighting3 {g : Nat} {q r : Int32} (W : kW h x sd al ae pl E P FE N) (ht : t < nn (N 0)) (hb : xbd n h) (hg : N (zI t 12) = Int32.ofNat g) (h20 : g ≤ 20) (hr : 0 ≤ r.toInt ∧ r.toInt ≤ 3) (hk : ¬ (0 ≤ q.toInt ∧ q.toInt < g)) : ∃ h', fX1_sighting x (Int32.ofNat t) q r Γ h n = some (.inl (-Int32.ofNat 1), h', 1, 4) ∧ hsub h h' ∧ xbd (n + 1) h' := by
  obtain ⟨Q, h', q1, e1, hs, hb'⟩ := k_sightAt (Γ := Γ) W ht hb q
  have ql := q1.len hg h20
  rw [if_neg (by omega)] at e1
  have c1 : decide (Int32.ofNat 0 ≤ r ∧ r ≤ Int32.ofNat 3) = true := decide_eq_true ((i_rngI (by decide) (by decide)).mpr hr)
  have i3 : (3 : Int32) = Int32.ofNat 3 := rfl
  have i0 : (0 : Int32) = Int32.ofNat 0 := rfl
  refine ⟨h', ?_, hs, hb'⟩
  unfold fX1_sighting
  rw [x_bc ((kw_x W).trans e1), i0, i3, x_b1 (k_inRange _ _ _), c1, b2i_t, x_b1 k_there1, if_pos rfl]
  rfl
theorem k_sighting0 (W : kW h x sd al ae pl E P FE N) {p q r : Int32} (hp : ¬ vS N p) : fX1_sighting x p q r Γ h n = some (.inr n, kNx h n 8, 1, 6) := by
  unfold fX1_sighting
  rw [x_bx ((kw_x W).trans (k_sightAt0 W hp))]
/-- a throw behind other steps: a new exception, all else as it was -/
def kThr {α : Type} (c : xM α) (Γ : Nat → Option Nat) (h : xH) (n ci : Nat) : Prop := ∃ q h' dc ds, c Γ h n = some (.inr q, h', dc, ds) ∧ dc ≤ 100 ∧ ds ≤ 1000 ∧ hsub h h' ∧ xbd (n + dc) h' ∧ yO h' ci q
theorem kThr.now {α : Type} {c : xM α} {ci : Nat} (hk : ykn ci = []) (hb : xbd n h) (e : c Γ h n = some (.inr n, kNx h n ci, 1, 6)) : kThr c Γ h n ci := ⟨n, kNx h n ci, 1, 6, e, by omega, by omega, kNx_sub (hb n (Nat.le_refl _)), xbd_up1 hb, kNx_O hk⟩
theorem k_sighting2 {q r : Int32} (W : kW h x sd al ae pl E P FE N) (ht : t < nn (N 0)) (hb : xbd n h) (hr : ¬ (0 ≤ r.toInt ∧ r.toInt ≤ 3)) : kThr (fX1_sighting x (Int32.ofNat t) q r) Γ h n 10 := by
  obtain ⟨Q, h', q1, e1, hs, hb'⟩ := k_sightAt (Γ := Γ) W ht hb q
  have c1 : decide (Int32.ofNat 0 ≤ r ∧ r ≤ Int32.ofNat 3) = false := decide_eq_false (fun z => hr ((i_rngI (by decide) (by decide)).mp z))
  have i3 : (3 : Int32) = Int32.ofNat 3 := rfl
  have i0 : (0 : Int32) = Int32.ofNat 0 := rfl
  refine ⟨n + 1, kNx h' (n + 1) 10, 2, 10, ?_, by omega, by omega, hs.trans (kNx_sub (hb' (n + 1) (Nat.le_refl _))), xbd_up1 hb', kNx_O rfl⟩
  unfold fX1_sighting
  rw [x_bc ((kw_x W).trans e1), i0, i3, x_b1 (k_inRange _ _ _), c1, b2i_f, x_bx k_there0]
  rfl
theorem k_estimate1 {g k : Nat} (W : kW h x sd al ae pl E P FE N) (ht : t < nn (N 0)) (hb : xbd n h) (hg : N (zI t 12) = Int32.ofNat g) (h20 : g ≤ 20) (hk : k < g) (hq : ¬ (pSg N t k 3).toInt64 + (1 : Int64) = 0) : ∃ h', fX1_estimate x (Int32.ofNat t) (Int32.ofNat k) Γ h n = some (.inl (pEst N t k), h', 1, 4) ∧ hsub h h' ∧ xbd (n + 1) h' := by
  obtain ⟨Q, h', q1, e1, hs, hb'⟩ := k_sightAt (Γ := Γ) W ht hb (Int32.ofNat k)
  have ql := q1.len hg h20
  have ek : (Int32.ofNat k).toInt = (k : Int) := i_toInt (by omega)
  have hkQ : k < Q.length := by omega
  rw [ek, if_pos (by omega), show ((k : Int)).toNat = k from rfl, List.getElem?_eq_getElem hkQ] at e1
  have o := ((q1.mono hs).2.2 k hkQ).1
  have v := ((q1.mono hs).2.2 k hkQ).2
  have es : xsel (some Q[k]) [(37, fun z => fX17_estimate z)] Γ h' (n + 1) = some (.inl (pEst N t k), h', 0, 0) := by
    unfold pSg at hq
    rw [e_sel o]
    unfold fX17_estimate pEst pSg
    simp only [xbind, e_gI o kn37_1, e_gI o kn37_2, e_gI o kn37_3, v 1 (by omega), v 2 (by omega), v 3 (by omega), xdvJ, if_neg hq, xpure, Nat.add_zero]
  refine ⟨h', ?_, hs, hb'⟩
  unfold fX1_estimate
  rw [x_bc ((kw_x W).trans e1), if_neg (fun z => nomatch z), x_b1 es]
  rfl
theorem k_estimate3 {g : Nat} {q : Int32} (W : kW h x sd al ae pl E P FE N) (ht : t < nn (N 0)) (hb : xbd n h) (hg : N (zI t 12) = Int32.ofNat g) (h20 : g ≤ 20) (hk : ¬ (0 ≤ q.toInt ∧ q.toInt < g)) : ∃ h', fX1_estimate x (Int32.ofNat t) q Γ h n = some (.inl (-1), h', 1, 4) ∧ hsub h h' ∧ xbd (n + 1) h' := by
  obtain ⟨Q, h', q1, e1, hs, hb'⟩ := k_sightAt (Γ := Γ) W ht hb q
  have ql := q1.len hg h20
  rw [if_neg (by omega)] at e1
  refine ⟨h', ?_, hs, hb'⟩
  unfold fX1_estimate
  rw [x_bc ((kw_x W).trans e1), if_pos rfl]
  rfl
theorem k_estimate0 (W : kW h x sd al ae pl E P FE N) {p q : Int32} (hp : ¬ vS N p) : fX1_estimate x p q Γ h n = some (.inr n, kNx h n 8, 1, 6) := by
  unfold fX1_estimate
  rw [x_bx ((kw_x W).trans (k_sightAt0 W hp))]
theorem i2d_add {a b : Int32} (h : (a + b).toInt = a.toInt + b.toInt) : FP.i2d (a + b) = dV (a.toInt + b.toInt) := by rw [d_vi, h]
theorem k_variance1 {g k : Nat} (W : kW h x sd al ae pl E P FE N) (ht : t < nn (N 0)) (hb : xbd n h) (hg : N (zI t 12) = Int32.ofNat g) (h20 : g ≤ 20) (hk : k < g) (b1 : 0 ≤ (pSg N t k 1).toInt ∧ (pSg N t k 1).toInt ≤ 13000000) (b2 : 0 ≤ (pSg N t k 2).toInt ∧ (pSg N t k 2).toInt ≤ 13000000) (b3 : 0 ≤ (pSg N t k 3).toInt ∧ (pSg N t k 3).toInt ≤ 13000000) : ∃ h', fX1_variance x (Int32.ofNat t) (Int32.ofNat k) Γ h n = some (.inl (pVar (pSg N t k 1).toInt (pSg N t k 2).toInt (pSg N t k 3).toInt), h', 1, 4) ∧ hsub h h' ∧ xbd (n + 1) h' := by
  obtain ⟨Q, h', q1, e1, hs, hb'⟩ := k_sightAt (Γ := Γ) W ht hb (Int32.ofNat k)
  have ql := q1.len hg h20
  have ek : (Int32.ofNat k).toInt = (k : Int) := i_toInt (by omega)
  have hkQ : k < Q.length := by omega
  rw [ek, if_pos (by omega), show ((k : Int)).toNat = k from rfl, List.getElem?_eq_getElem hkQ] at e1
  have o := ((q1.mono hs).2.2 k hkQ).1
  have v := ((q1.mono hs).2.2 k hkQ).2
  have g1 := v 1 (by omega)
  have g2 := v 2 (by omega)
  have g3 := v 3 (by omega)
  have add : ∀ (a : Int32) (c : Nat), 0 ≤ a.toInt → a.toInt ≤ 13000000 → c ≤ 2 → FP.i2d (a + Int32.ofNat c) = dV (a.toInt + c) := by
    intro a c h1 h2 h3
    rw [d_vi, Int32.toInt_add, i_toInt (by omega), Int.bmod_eq_of_le] <;> omega
  have sub : ∀ (a b : Int32), 0 ≤ a.toInt → a.toInt ≤ 13000000 → 0 ≤ b.toInt → b.toInt ≤ 13000000 → FP.i2d (a - b) = dV (a.toInt - b.toInt) := by
    intro a b h1 h2 h3 h4
    rw [d_vi, Int32.toInt_sub, Int.bmod_eq_of_le] <;> omega
  have es : xsel (some Q[k]) [(37, fun z => fX17_variance z)] Γ h' (n + 1) = some (.inl (pVar (pSg N t k 1).toInt (pSg N t k 2).toInt (pSg N t k 3).toInt), h', 0, 0) := by
    rw [e_sel o]
    change yi h' 37 1 Q[k] = pSg N t k 1 at g1
    change yi h' 37 2 Q[k] = pSg N t k 2 at g2
    change yi h' 37 3 Q[k] = pSg N t k 3 at g3
    have p1 := add (pSg N t k 1) 1 b1.1 b1.2 (by omega)
    have p2 := add (pSg N t k 2) 1 b2.1 b2.2 (by omega)
    have p3 := sub (pSg N t k 1) (pSg N t k 3) b1.1 b1.2 b3.1 b3.2
    have p4 := sub (pSg N t k 2) (pSg N t k 3) b2.1 b2.2 b3.1 b3.2
    have p5 := add (pSg N t k 3) 1 b3.1 b3.2 (by omega)
    have p6 := add (pSg N t k 3) 2 b3.1 b3.2 (by omega)
    generalize pSg N t k 1 = A at *
    generalize pSg N t k 2 = B at *
    generalize pSg N t k 3 = R at *
    have f1 := dB.v (i := A.toInt + (1 : Nat)) (by omega)
    have f2 := dB.v (i := B.toInt + (1 : Nat)) (by omega)
    have f3 := dB.v (i := A.toInt - R.toInt) (by omega)
    have f4 := dB.v (i := B.toInt - R.toInt) (by omega)
    have f5 := dNz.v (i := R.toInt + (1 : Nat)) (by omega) (by omega)
    have f6 := dNz.v (i := R.toInt + (2 : Nat)) (by omega) (by omega)
    have g1' := f1.mul f2 (by omega) (by omega)
    have g2' := g1'.mul f3 (by omega) (by omega)
    have g3' := g2'.mul f4 (by omega) (by omega)
    have g4' := g3'.fin.num.div f5
    have g5' := g4'.div f5
    have m1 := fun (k : xM UInt64) => x_dmul2 (k := k) f1.fin f2.fin
    have m2 := fun (k : xM UInt64) => x_dmul2 (k := k) g1'.fin f3.fin
    have m3 := fun (k : xM UInt64) => x_dmul2 (k := k) g2'.fin f4.fin
    have m4 := fun (k : xM UInt64) => x_ddiv (k := k) g3'.fin.num f5
    have m5 := fun (k : xM UInt64) => x_ddiv (k := k) g4' f5
    have m6 := fun (k : xM UInt64) => x_ddiv (k := k) g5' f6
    unfold fX17_variance pVar
    simp only [xbind, xlet, e_gI o kn37_1, e_gI o kn37_2, e_gI o kn37_3, g1, g2, g3, i_ofNat, p1, p2, p3, p4, p5, p6, m1, m2, m3, m4, m5, m6, xpure, Nat.add_zero]
    rfl
  refine ⟨h', ?_, hs, hb'⟩
  unfold fX1_variance
  rw [x_bc ((kw_x W).trans e1), if_neg (fun z => nomatch z), x_b1 es]
  rfl
theorem k_variance3 {g : Nat} {q : Int32} (W : kW h x sd al ae pl E P FE N) (ht : t < nn (N 0)) (hb : xbd n h) (hg : N (zI t 12) = Int32.ofNat g) (h20 : g ≤ 20) (hk : ¬ (0 ≤ q.toInt ∧ q.toInt < g)) : ∃ h', fX1_variance x (Int32.ofNat t) q Γ h n = some (.inl FP.dconst0, h', 1, 4) ∧ hsub h h' ∧ xbd (n + 1) h' := by
  obtain ⟨Q, h', q1, e1, hs, hb'⟩ := k_sightAt (Γ := Γ) W ht hb q
  have ql := q1.len hg h20
  rw [if_neg (by omega)] at e1
  refine ⟨h', ?_, hs, hb'⟩
  unfold fX1_variance
  rw [x_bc ((kw_x W).trans e1), if_pos rfl]
  rfl
theorem k_variance0 (W : kW h x sd al ae pl E P FE N) {p q : Int32} (hp : ¬ vS N p) : fX1_variance x p q Γ h n = some (.inr n, kNx h n 8, 1, 6) := by
  unfold fX1_variance
  rw [x_bx ((kw_x W).trans (k_sightAt0 W hp))]
theorem k_pooled_p18 {it d e s : Nat} {Q : List Nat} {hd cap : Nat} (H : kDc h d e Q hd cap) (hg : kSg h Q N s) (hi : h it = none) : ∀ (k i fu : Nat) (v w : Int64) (l : Int32), i + k = Q.length → k < fu →
    ∃ c r l', fX1_pooled_p18 fu v w (some it) Γ (kIr h it d (Int32.ofNat ((hd + i) % cap)) (Int32.ofNat k) l) n = some (.inl (pQuo (pPoolM N s i k v) (pPoolR N s i k w)), kIr h it d c r l', 0, 0) := by
  have h20 := hg.2.1
  have z0 : Int32.ofNat 0 = 0 := rfl
  intro k
  induction k with
  | zero =>
    intro i fu v w l hi' hf
    obtain ⟨fu, rfl⟩ : ∃ g, fu = g + 1 := ⟨fu - 1, by omega⟩
    refine ⟨Int32.ofNat ((hd + i) % cap), Int32.ofNat 0, l, ?_⟩
    rw [fX1_pooled_p18, x_b1 (ir_sel.trans (kd_has (by omega))), decide_eq_false (by omega), b2i_f, if_pos z0, pPoolM, pPoolR]
    unfold pQuo
    by_cases c : w = 0
    · rw [if_pos (show lg_cmp w 0 = 0 from j_cmp0.mpr c), if_pos c]
      rfl
    · rw [if_neg (show ¬ lg_cmp w 0 = 0 from fun q => c (j_cmp0.mp q)), if_neg c, x_ddiv (dFin.l2dA v).num (dNz.l2dA (d_j0 c))]
      rfl
  | succ k ih =>
    intro i fu v w l hi' hf
    obtain ⟨fu, rfl⟩ : ∃ g, fu = g + 1 := ⟨fu - 1, by omega⟩
    have hq : i < Q.length := by omega
    have e1 : k + 1 = Q.length - i := by omega
    have e2 : k = Q.length - (i + 1) := by omega
    obtain ⟨l', en⟩ := kd_next (Γ := Γ) (n := n) (l := l) H hi hq
    rw [← e1, ← e2] at en
    have hk20 : k ≤ 20 := by omega
    clear e1 e2
    have hgm := hg.mono (ir_sub (d := d) (c := Int32.ofNat ((hd + (i + 1)) % cap)) (r := Int32.ofNat k) (l := l') hi)
    have o := (hgm.2.2 i hq).1
    have vv := (hgm.2.2 i hq).2
    have c37 := k_cst (Γ := Γ) (n := n) (ok := fun c => c == 37) o rfl
    have g1 := e_gI (Γ := Γ) (n := n) o kn37_1
    have g2 := e_gI (Γ := Γ) (n := n) o kn37_2
    have g3 := e_gI (Γ := Γ) (n := n) o kn37_3
    rw [vv 1 (by omega)] at g1
    rw [vv 2 (by omega)] at g2
    rw [vv 3 (by omega)] at g3
    have i0 : (0 : Int32) = Int32.ofNat 0 := rfl
    obtain ⟨c, r, l2, e3⟩ := ih (i + 1) fu (v + (pSg N s i 2).toInt64 * (pSg N s i 1).toInt64) (w + (pSg N s i 3).toInt64) l' (by omega) (by omega)
    refine ⟨c, r, l2, ?_⟩
    rw [fX1_pooled_p18, x_b1 (ir_sel.trans (kd_has (by omega))), decide_eq_true (by omega), b2i_t, i0, if_neg b2i_1, x_b1 (ir_sel.trans en), x_b1 c37, x_b1 g2, x_b1 g1]
    dsimp only [xlet]
    rw [x_b1 g3, pPoolM, pPoolR]
    exact e3
theorem k_pooled1 {g : Nat} (W : kW h x sd al ae pl E P FE N) (ht : t < nn (N 0)) (hb : xbd n h) (hg : N (zI t 12) = Int32.ofNat g) (h20 : g ≤ 20) : ∃ h', fX1_pooled x (Int32.ofNat t) Γ h n = some (.inl (pQuo (pPoolM N t 0 g 0) (pPoolR N t 0 g 0)), h', 1, 4) ∧ hsub h h' ∧ xbd (n + 1) h' := by
  have H := kw_hd W ht
  obtain ⟨Q, hd, hq⟩ := H.2.2.2.2.2.2.2.2.2.2.2.2.2.2
  obtain ⟨hdd, cap, hc⟩ := hd.dc
  have ql := hq.len hg h20
  have hh := hc.2.2.2.2.2.1
  have e1 := kd_iter (Γ := Γ) hc hb
  obtain ⟨c, r, l, e2⟩ := k_pooled_p18 (Γ := Γ) (n := n + 1) hc hq (hb n (Nat.le_refl _)) Q.length 0 xFU 0 0 (-Int32.ofNat 1) (by omega) (by unfold xFU; omega)
  rw [Nat.add_zero, Nat.mod_eq_of_lt hh] at e2
  refine ⟨kIr h n (E t 5) c r l, ?_, ir_sub (hb n (Nat.le_refl _)), xbd_up1 hb⟩
  unfold fX1_pooled
  dsimp only [xlet]
  rw [x_b1 ((kw_x W).trans (k_herd1 W ht)), x_b1 (kh_7 H), x_bc e1, e2, ql]
  rfl
theorem k_pooled0 (W : kW h x sd al ae pl E P FE N) {p : Int32} (hp : ¬ vS N p) : fX1_pooled x p Γ h n = some (.inr n, kNx h n 8, 1, 6) := by
  unfold fX1_pooled
  dsimp only [xlet]
  rw [x_bx ((kw_x W).trans (k_herd0 W hp))]
end KS2
