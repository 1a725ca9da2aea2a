/-! part 541: isBalanced, all herds -/
def cA (L N : Nat → Int32) : Nat → Nat → Bool
  | _, 0 => true
  | s, d + 1 => cB L N s 0 (nn (N 2) + 1) && cA L N (s + 1) d
/-- the books of all species -/
def kBs (h : xH) (P M : Nat → Nat) (e ps V : Nat → Nat → Nat) (N L : Nat → Int32) : Prop := ∀ s, s < nn (N 0) → kBo h (P s) (M s) (e s) (ps s) (V s) N L s
section KBB
variable {Γ : Nat → Option Nat} {x sd al ae pl it : Nat} {E : Nat → Nat → Nat} {P FE M : Nat → Nat} {e ps V : Nat → Nat → Nat} {N L : Nat → Int32} {Z : Nat → Prop}
theorem kBs.hq {h g : xH} (B : kBs h P M e ps V N L) (W : kW h x sd al ae pl E P FE N) (hz : ∀ s i, s < nn (N 0) → i < nn (N 2) → ¬ Z (V s i)) (q : hq Z h g) : kBs g P M e ps V N L := fun s hs => (B s hs).hq (W.2.2.2.2 s hs).1.1 (fun i hi => hz s i hs hi) q
theorem kw_kAl {h : xH} (W : kW h x sd al ae pl E P FE N) : kAl h al ae (nn (N 0)) (fun t => E t 0) := by
  obtain ⟨-, -, -, -, -, s6, s7, s8, s9, s10, s11, -⟩ := W.2.2.2.1
  have n0 : N 0 = Int32.ofNat (nn (N 0)) := W.2.2.1.1
  exact ⟨s6, s7, s8, s9, s10.trans n0, W.2.2.1.2.1, s11⟩
theorem k_bal13 (hZ : ∀ s, s < nn (N 0) → Z (E s 4)) (hV : ∀ s i, s < nn (N 0) → i < nn (N 2) → ¬ Z (V s i)) (nit : ¬ Z it) (neg : ∀ s k, s < nn (N 0) → k < nn (N 2) → ¬ pLP L N s k 5 = -Int32.ofNat 1) : ∀ (d t fu n : Nat) (h : xH), t + d = nn (N 0) → d < fu → kW h x sd al ae pl E P FE N → kBs h P M e ps V N L → kIa h it al t → xbd n h → ∃ g dc ds, fX1_isBalanced_p13 fu x (some it) Γ h n = some (.inl (b2i (cA L N t d)), g, dc, ds) ∧ dc ≤ 2 * d ∧ ds ≤ 5 * d ∧ hq (fun a => Z a ∨ a = it) h g ∧ xbd (n + dc) g := by
  have i0 : (0 : Int32) = Int32.ofNat 0 := rfl
  have im : (-1 : Int32) = -Int32.ofNat 1 := rfl
  have n10 : ¬ Int32.ofNat 1 = Int32.ofNat 0 := by decide
  intro d
  induction d with
  | zero =>
    intro t fu n h ht hf W B I hb
    obtain ⟨fu, rfl⟩ : ∃ g, fu = g + 1 := ⟨fu - 1, by omega⟩
    refine ⟨h, 0, 0, ?_, by omega, by omega, hq.rfl, hb⟩
    rw [fX1_isBalanced_p13, x_b1 (k_iaHas (kw_kAl W) I (by omega)), if_pos (show t = nn (N 0) by omega), i0, if_pos rfl]
    rfl
  | succ d ih =>
    intro t fu n h ht hf W B I hb
    obtain ⟨fu, rfl⟩ : ∃ g, fu = g + 1 := ⟨fu - 1, by omega⟩
    have tn : t < nn (N 0) := by omega
    obtain ⟨g1, a1, a2, a3, a4⟩ := k_iaNext (Γ := Γ) (n := n) (kw_kAl W) I tn
    have oI := yO_of _ _ _ I.1
    have q1 : hq (fun a => Z a ∨ a = it) h g1 := hq_it oI (Or.inr rfl) a4 a3
    have vi : ∀ s i, s < nn (N 0) → i < nn (N 2) → ¬ (Z (V s i) ∨ V s i = it) := by
      intro s i hs hi
      rintro (z | z)
      · exact hV s i hs hi z
      · have o := ((B s hs).2.2.2 i hi).1
        exact absurd (yO_uq o (by rw [z]; exact oI)) (by omega)
    have W1 := W.hq q1
    have B1 := B.hq W vi q1
    have b1 := xbd_hd hb a4
    have hP := (W1.2.2.2.2 t tn).1.1
    have g5 := e_gR (Γ := Γ) (n := n) hP kn20_5
    rw [(B1 t tn).1] at g5
    obtain ⟨s, h1, dc, ds, e1, e2, e3, e4, e5, e6, e7⟩ := k_values (Γ := Γ) (Z := Z) (B1 t tn).2.2.1.mp (B1 t tn).2.2.1.ch b1
    have W2 := W1.hq e4
    have B2 := B1.hq W1 hV e4
    have j1 := k_valIt (Γ := Γ) (B := True) (B2 t tn).2.2.1 e6 e7 e5
    have k10 := (B2 t tn).2.2.1.2.2.2.2.2.2.1
    obtain ⟨g2, r1, r2, r3⟩ := k_bal51 (Γ := Γ) (it := n + dc) (n := n + dc + 1) W2 tn (B2 t tn) (hZ t tn) (e5 _ (Nat.le_refl _)) (fun a ha => e5 a (by omega)) (by omega) (fun k hk => neg t k tn hk) (fX1_isBalanced_p13 fu) (some it) (nn (N 2)) 0 xFU none (by omega) (by unfold xFU; omega)
    have I2 := ((a2.hq (kw_kAl W1) nit e4).hq (kw_kAl W2) nit r2)
    obtain ⟨g3, dc3, ds3, t1, t2, t3, t4, t5⟩ := ih (t + 1) fu (n + dc + 1) g2 (by omega) (by omega) (W2.hq r2) (B2.hq W2 hV r2) I2 r3
    have q3 : hq (fun a => Z a ∨ a = it) h g2 := q1.trans ((e4.trans r2).wide (fun a z => Or.inl z))
    have go : fX1_isBalanced_p13 (fu + 1) x (some it) Γ h n = xadd dc ds (xadd 1 4 (if cB L N t 0 (nn (N 2) + 1) = true then fX1_isBalanced_p13 fu x (some it) Γ g2 (n + dc + 1) else some (.inl (Int32.ofNat 0), g2, 0, 0))) := by
      rw [fX1_isBalanced_p13, x_b1 (k_iaHas (kw_kAl W) I (by omega)), if_neg (show ¬ t = nn (N 0) by omega), i0, if_neg n10, x_b1 a1, x_b1 (kw_cst W1 tn)]
      dsimp only [xlet]
      rw [x_b1 (kh_0 (kw_hd W1 tn)), x_b1 g5, x_bc e1, x_bc j1, ← r1]
      rfl
    rw [go, cA]
    by_cases c : cB L N t 0 (nn (N 2) + 1) = true
    · rw [if_pos c, t1, c]
      refine ⟨g3, dc + (1 + dc3), ds + (4 + ds3), rfl, by omega, by omega, q3.trans t4, ?_⟩
      rw [show n + (dc + (1 + dc3)) = n + dc + 1 + dc3 by omega]
      exact t5
    · rw [if_neg c, eq_false_of_ne_true c]
      refine ⟨g2, dc + (1 + 0), ds + (4 + 0), rfl, by omega, by omega, q3, ?_⟩
      exact r3
theorem k_isBalanced {n : Nat} {h : xH} (hZ : ∀ s, s < nn (N 0) → Z (E s 4)) (hV : ∀ s i, s < nn (N 0) → i < nn (N 2) → ¬ Z (V s i)) (nit : ¬ Z n) (neg : ∀ s k, s < nn (N 0) → k < nn (N 2) → ¬ pLP L N s k 5 = -Int32.ofNat 1) (W : kW h x sd al ae pl E P FE N) (B : kBs h P M e ps V N L) (hb : xbd n h) : ∃ g dc ds, fX1_isBalanced x Γ h n = some (.inl (b2i (cA L N 0 (nn (N 0)))), g, dc, ds) ∧ dc ≤ 9 ∧ ds ≤ 24 ∧ hq Z h g ∧ xbd (n + dc) g := by
  obtain ⟨g1, a1, a2, a3, a4⟩ := k_iaNew (Γ := Γ) (kw_kAl W) hb
  have n4 := W.2.2.1.2.1
  have al2 : yO h 2 al := yO_of _ _ _ (kw_kAl W).1
  obtain ⟨g2, dc, ds, t1, t2, t3, t4, t5⟩ := k_bal13 (Γ := Γ) hZ hV nit neg (nn (N 0)) 0 xFU (n + 1) g1 (by omega) (by unfold xFU; omega) (W.mono a3) (fun s hs => (B s hs).mono (W.2.2.2.2 s hs).1.1 a3) a2 a4
  refine ⟨g2, 1 + dc, 4 + ds, ?_, by omega, by omega, ?_, by rw [← Nat.add_assoc]; exact t5⟩
  · unfold fX1_isBalanced
    rw [x_b1 (kw_now W), x_b1 (kw_al W), x_bc ((e_sel al2).trans a1), t1]
    rfl
  · refine ((a3.q (Z := fun a => Z a ∨ a = n)).trans t4).drop (fun a ha ne => ?_)
    rcases ha with z | z
    · exact z
    · exact absurd (hb a (by omega)) ne
end KBB
