/-! part 538: sum -/
section KSU
variable {Γ : Nat → Option Nat} {h : xH} {n m k y it w : Nat} {e ps V la : Nat → Nat} {f : Nat → Int32}
theorem k_sum52 (B : kBk h m k y e ps V) (hm : kLm Γ h la) (hw : w < 7) (hn : h it = none) (hV : ∀ i, i < k → yO h 22 (V i) ∧ yi h 22 w (V i) = f i) : ∀ (d i fu : Nat) (acc : Int64) (lb : Option Nat), i + d = k → d < fu → ∃ lb', fX1_sum_p52 fu (some (la w)) acc (some it) Γ (kJ14 h it (if i < k then some (e i) else none) lb (yi h 16 5 m) m) n = some (.inl (acc + jsum (fun j => (f j).toInt64) i d), kJ14 h it none lb' (yi h 16 5 m) m, 0, 0) := by
  have i0 : (0 : Int32) = Int32.ofNat 0 := rfl
  intro d
  induction d with
  | zero =>
    intro i fu acc lb hi' hf
    obtain ⟨fu, rfl⟩ : ∃ g, fu = g + 1 := ⟨fu - 1, by omega⟩
    refine ⟨lb, ?_⟩
    rw [if_neg (by omega), fX1_sum_p52, x_b1 k_has14, if_pos rfl, i0, if_pos rfl, jsum, Int64.add_zero]
    rfl
  | succ d ih =>
    intro i fu acc lb hi' hf
    obtain ⟨fu, rfl⟩ : ∃ g, fu = g + 1 := ⟨fu - 1, by omega⟩
    have ik : i < k := by omega
    have s1 : hsub h (kJ14 h it (if i + 1 < k then some (e (i + 1)) else none) (some (e i)) (yi h 16 5 m) m) := hsub_up hn
    obtain ⟨v1, v2⟩ := hV i ik
    have v1' := hO v1 s1
    have v2' := (yi_c (s1 _ (yO_at v1))).trans v2
    have r := k_sel7 (Γ := Γ) (n := n) (hm.mono s1) hw v1'
    rw [v2'] at r
    unfold kSel at r
    rw [if_pos ik, fX1_sum_p52, x_b1 k_has14, if_neg (fun z => nomatch z), x_b1 (k_next14 B ik hn), x_b1 (k_cst v1' rfl), x_b1 r, jsum, ← Int64.add_assoc]
    exact ih (i + 1) fu _ (some (e i)) (by omega) (by omega)
theorem jsum_cg {f g : Nat → Int64} : ∀ (k x : Nat), (∀ j, x ≤ j → j < x + k → f j = g j) → jsum f x k = jsum g x k := by
  intro k
  induction k with
  | zero => intro x _; rfl
  | succ k ih =>
    intro x hf
    rw [jsum, jsum, hf x (by omega) (by omega), ih (x + 1) (fun j h1 h2 => hf j (by omega) (by omega))]
theorem jsum_last {f : Nat → Int64} : ∀ (k x : Nat), jsum f x (k + 1) = f (x + k) + jsum f x k := by
  intro k
  induction k with
  | zero => intro x; rfl
  | succ k ih =>
    intro x
    rw [jsum, ih (x + 1), jsum, ← Int64.add_assoc, Int64.add_comm (f x), Int64.add_assoc, show x + 1 + k = x + (k + 1) by omega]
end KSU
section KSV
variable {Γ : Nat → Option Nat} {h : xH} {n x sd al ae pl t m w : Nat} {E : Nat → Nat → Nat} {P FE e ps V la : Nat → Nat} {N L : Nat → Int32} {Z : Nat → Prop}
theorem k_valIt {B : Prop} {k y : Nat} {s : Nat} {g : xH} (K : kBk g m k y e ps V) (h1 : yO g 11 s) (h2 : yr g 11 0 s = some m) (hb : xbd n g) : xsel (some s) [(2, fun z => fJ2_iterator z), (6, fun z => fJ18_iterator__J19 z), (11, fun z => fJ40_iterator z), (23, fun z => fJ27_iterator z), (32, fun z => fJ37_iterator z), (33, fun z => fJ45_iterator z)] Γ g n = some (.inl (some n), kJ14 g n (if 0 < k then some (e 0) else none) none (yi g 16 5 m) m, 1, 4) := by
  rw [e_sel2 h1 (by omega), e_sel2 h1 (by omega), e_sel h1, k_it14 K h1 h2 hb]
theorem kh_lw (W : kW h x sd al ae pl E P FE N) (ht : t < nn (N 0)) (hw : w ≤ 4) : yi h 22 w (E t 4) = pPart N t w := by
  obtain ⟨h1, h2, h3, h4, h5, h6, h7⟩ := (kw_hd W ht).led
  unfold pPart
  rcases (show w = 0 ∨ w = 1 ∨ w = 2 ∨ w = 3 ∨ w = 4 by omega) with rfl | rfl | rfl | rfl | rfl
  · exact h2
  · exact h3
  · exact h4
  · exact h5
  · exact h6
theorem k_sum1 (W : kW h x sd al ae pl E P FE N) (ht : t < nn (N 0)) (hb : xbd n h) (hm : kLm Γ h la) (B : kBo h (P t) m e ps V N L t) (hz : ∀ i, i < nn (N 2) → ¬ Z (V i)) (hw1 : 1 ≤ w) (hw4 : w ≤ 4) : ∃ h' dc ds, fX1_sum x (Int32.ofNat t) (Int32.ofNat w) Γ h n = some (.inl (jsum (fun k => (pLP L N t k w).toInt64) 0 (nn (N 2) + 1)), h', dc, ds) ∧ dc ≤ 3 ∧ ds ≤ 12 ∧ hq Z h h' ∧ xbd (n + dc) h' := by
  obtain ⟨fr, p1⟩ := k_prt (n := n) hm hb (show w < 7 by omega)
  have s1 : hsub h (kRo h n fr) := hsub_up (hb n (Nat.le_refl _))
  have hb1 : xbd (n + 1) (kRo h n fr) := xbd_up1 hb
  have W1 := W.mono s1
  have hP0 : yO h 20 (P t) := (W.2.2.2.2 t ht).1.1
  have B0 := B.mono hP0 s1
  have hP : yO (kRo h n fr) 20 (P t) := hO hP0 s1
  generalize kRo h n fr = g at *
  have m1 := hm.mono s1
  have g5 := e_gR (Γ := Γ) (n := n + 1) hP kn20_5
  rw [B0.1] at g5
  have r0 := k_sel7 (Γ := Γ) (n := n + 1) m1 (show w < 7 by omega) (yO_of _ _ _ (kw_hd W1 ht).led.1)
  rw [kh_lw W1 ht hw4] at r0
  unfold kSel at r0
  obtain ⟨s, h1, dc, ds, e1, e2, e3, e4, e5, e6, e7⟩ := k_values (Γ := Γ) (Z := Z) B0.2.2.1.mp B0.2.2.1.ch hb1
  have B1 := B0.hq hP hz e4
  have i1 := k_valIt (Γ := Γ) (B := True) B1.2.2.1 e6 e7 e5
  have k10 := B1.2.2.1.2.2.2.2.2.2.1
  obtain ⟨lb, w1⟩ := k_sum52 (Γ := Γ) (n := n + 1 + dc + 1) (it := n + 1 + dc) (f := fun i => L ((i * 4 + t) * 7 + w)) B1.2.2.1 (m1.hq e4) (show w < 7 by omega) (e5 _ (Nat.le_refl _)) (fun i hi' => ⟨(B1.2.2.2 i hi').1, (B1.2.2.2 i hi').2 w (by omega)⟩) (nn (N 2)) 0 xFU (pPart N t w).toInt64 none (by omega) (by unfold xFU; omega)
  refine ⟨kJ14 h1 (n + 1 + dc) none lb (yi h1 16 5 m) m, 1 + (dc + 1), 7 + (ds + 4), ?_, by omega, by omega, (s1.q).trans (e4.trans (hsub_up (e5 _ (Nat.le_refl _))).q), ?_⟩
  · have ep : jsum (fun k => (pLP L N t k w).toInt64) 0 (nn (N 2) + 1) = (pPart N t w).toInt64 + jsum (fun j => (L ((j * 4 + t) * 7 + w)).toInt64) 0 (nn (N 2)) := by
      rw [jsum_last, Nat.zero_add]
      congr 1
      · unfold pLP; rw [if_pos rfl]
      · exact jsum_cg _ _ (fun j _ hj => by unfold pLP; rw [if_neg (by omega)])
    have i1' : (1 : Int32) = Int32.ofNat 1 := rfl
    have i4 : (4 : Int32) = Int32.ofNat 4 := rfl
    have d1 : decide (Int32.ofNat 1 ≤ Int32.ofNat w ∧ Int32.ofNat w ≤ Int32.ofNat 4) = true := decide_eq_true ((i_rngI (by decide) (by decide)).mpr (by rw [i_toInt (by omega)]; omega))
    unfold fX1_sum
    dsimp only [xlet]
    rw [x_b1 (kw_x W |>.trans (k_herd1 W ht)), i1', i4, x_b1 (k_inRange _ _ _), d1, b2i_t, x_b1 k_there1, x_bc p1, x_b1 (kh_6 (kw_hd W1 ht)), x_b1 r0, x_b1 (kh_0 (kw_hd W1 ht)), x_b1 g5, x_bc e1, x_bc i1, w1, ep]
    rfl
  · have := xbd_up1 (c := (true, .inr (14, [va_rf none, va_rf lb, .int (yi h1 16 5 m), va_rf (some m)]))) e5
    rw [show n + (1 + (dc + 1)) = n + 1 + dc + 1 by omega]
    exact this
theorem k_sum2 (W : kW h x sd al ae pl E P FE N) (ht : t < nn (N 0)) {q : Int32} (c : ¬ (1 ≤ q.toInt ∧ q.toInt ≤ 4)) : fX1_sum x (Int32.ofNat t) q Γ h n = some (.inr n, kNx h n 10, 1, 6) := by
  have i1' : (1 : Int32) = Int32.ofNat 1 := rfl
  have i4 : (4 : Int32) = Int32.ofNat 4 := rfl
  have d1 : decide (Int32.ofNat 1 ≤ q ∧ q ≤ Int32.ofNat 4) = false := decide_eq_false (fun z => c ((i_rngI (by decide) (by decide)).mp z))
  unfold fX1_sum
  rw [x_b1 (kw_x W |>.trans (k_herd1 W ht)), i1', i4, x_b1 (k_inRange _ _ _), d1, b2i_f, x_bx k_there0]
theorem k_sum0 (W : kW h x sd al ae pl E P FE N) {p q : Int32} (hp : ¬ vS N p) : fX1_sum x p q Γ h n = some (.inr n, kNx h n 8, 1, 6) := by
  unfold fX1_sum
  rw [x_bx (kw_x W |>.trans (k_herd0 W hp))]
end KSV
