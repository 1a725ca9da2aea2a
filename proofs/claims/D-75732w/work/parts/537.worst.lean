/-! part 537: worstYear -/
def wV (y : Nat) (b : Option Nat) : Int32 := match b with
  | none => -Int32.ofNat 1
  | some j => Int32.ofNat (y + j)
def wC (f : Nat → Int32) (b : Option Nat) : Int32 := match b with
  | none => Int32.ofNat 0
  | some j => f j
section KWY
variable {Γ : Nat → Option Nat} {h : xH} {n m k y it : Nat} {e ps V : Nat → Nat} {f : Nat → Int32}
theorem k_worst69 {g : xH} {i : Nat} {l4 : Option Nat} {k25 : Int32 → Int32 → Option Nat → xM Int32} (B : kBk g m k y e ps V) (hi' : i < k) (h1 : yO g 22 (V i)) (h2 : yi g 22 5 (V i) = f i) : fX1_worstYear_p69 k25 l4 (some (e i)) Γ g n = k25 (Int32.ofNat (y + i)) (f i) l4 Γ g n := by
  obtain ⟨d1, d2, kb, d3, d4, d5⟩ := k_nd B hi'
  have g0 := e_gR (Γ := Γ) (n := n) d1 kn36_0
  have g1 := e_gR (Γ := Γ) (n := n) d1 kn36_1
  have g2 := e_gI (Γ := Γ) (n := n) d4 kn15_0
  have g5 := e_gI (Γ := Γ) (n := n) h1 kn22_5
  rw [d3] at g0
  rw [d2] at g1
  rw [d5] at g2
  rw [h2] at g5
  have r1 : xsel (some (e i)) [(36, fun z => fJ47_getKey z)] Γ g n = some (.inl (some kb), g, 0, 0) := by
    rw [e_sel d1]
    unfold fJ47_getKey
    rw [x_b1 g0]
    rfl
  have r2 : xsel (some kb) [(15, fun z => fJ17_intValue z)] Γ g n = some (.inl (Int32.ofNat (y + i)), g, 0, 0) := by
    rw [e_sel d4]
    unfold fJ17_intValue
    rw [x_b1 g2]
    rfl
  have r3 : xsel (some (e i)) [(31, fun z => fJ35_getValue z), (36, fun z => fJ47_getValue z)] Γ g n = some (.inl (some (V i)), g, 0, 0) := by
    rw [e_sel2 d1 (by omega), e_sel d1]
    unfold fJ47_getValue
    rw [x_b1 g1]
    rfl
  unfold fX1_worstYear_p69
  rw [x_b1 r1, x_b1 (k_cst d4 rfl), x_b1 r2, x_b1 r3, x_b1 (k_cst h1 rfl), x_b1 g5]
  rfl
theorem k_worst25 (B : kBk h m k y e ps V) (hn : h it = none) (hV : ∀ i, i < k → yO h 22 (V i) ∧ yi h 22 5 (V i) = f i) : ∀ (d i fu : Nat) (b lb : Option Nat), i + d = k → (∀ j, b = some j → j < i) → d < fu → ∃ lb', fX1_worstYear_p25 fu (wV y b) (wC f b) (some it) Γ (kJ13 h it (if i < k then some (e i) else none) lb (yi h 16 5 m) m) n = some (.inl (wV y (pWo f d i b)), kJ13 h it none lb' (yi h 16 5 m) m, 0, 0) := by
  have i0 : (0 : Int32) = Int32.ofNat 0 := rfl
  have im : (-1 : Int32) = -Int32.ofNat 1 := rfl
  have n10 : ¬ Int32.ofNat 1 = Int32.ofNat 0 := by decide
  intro d
  induction d with
  | zero =>
    intro i fu b lb hi' _ hf
    obtain ⟨fu, rfl⟩ : ∃ g, fu = g + 1 := ⟨fu - 1, by omega⟩
    refine ⟨lb, ?_⟩
    rw [if_neg (by omega), fX1_worstYear_p25, x_b1 k_has13, if_pos rfl, i0, if_pos rfl]
    rfl
  | succ d ih =>
    intro i fu b lb hi' hb hf
    obtain ⟨fu, rfl⟩ : ∃ g, fu = g + 1 := ⟨fu - 1, by omega⟩
    have ik : i < k := by omega
    have s1 : hsub h (kJ13 h it (if i + 1 < k then some (e (i + 1)) else none) (some (e i)) (yi h 16 5 m) m) := hsub_up hn
    have B1 := B.mono s1
    obtain ⟨d1, d2, kb, d3, d4, d5⟩ := k_nd B1 ik
    obtain ⟨v1, v2⟩ := hV i ik
    have v1' := hO v1 s1
    have v2' := (yi_c (s1 _ (yO_at v1))).trans v2
    have cs : xcst (fun c => c == 31 || c == 36) (some (e i)) Γ (kJ13 h it (if i + 1 < k then some (e (i + 1)) else none) (some (e i)) (yi h 16 5 m) m) n = some (.inl (), _, 0, 0) := k_cst d1 rfl
    rw [if_pos ik, fX1_worstYear_p25, x_b1 k_has13, if_neg (fun z => nomatch z), x_b1 (k_next13 B ik hn), x_b1 cs, im]
    have go := ih (i + 1) fu (some i) (some (e i)) (by omega) (fun j hj => by injection hj; omega) (by omega)
    cases b with
    | none =>
      rw [if_pos (show wV y none = -Int32.ofNat 1 from rfl), k_worst69 B1 ik v1' v2', pWo]
      exact go
    | some j =>
      have jk := hb j rfl
      have nj : ¬ wV y (some j) = -Int32.ofNat 1 := i_neg1 (by have := B.2.2.2.2.2.2.2; omega)
      have g1 := e_gR (Γ := Γ) (n := n) d1 kn36_1
      rw [d2] at g1
      have g5 := e_gI (Γ := Γ) (n := n) v1' kn22_5
      rw [v2'] at g5
      have r3 : xsel (some (e i)) [(36, fun z => fJ47_getValue z)] Γ (kJ13 h it (if i + 1 < k then some (e (i + 1)) else none) (some (e i)) (yi h 16 5 m) m) n = some (.inl (some (V i)), kJ13 h it (if i + 1 < k then some (e (i + 1)) else none) (some (e i)) (yi h 16 5 m) m, 0, 0) := by
        rw [e_sel d1]
        unfold fJ47_getValue
        rw [x_b1 g1]
        rfl
      rw [if_neg nj, x_b1 r3, x_b1 (k_cst v1' rfl), x_b1 g5, pWo]
      by_cases c : f j < f i
      · rw [if_pos (show wC f (some j) < f i from c), if_pos c]
        exact ih (i + 1) fu (some j) (some (e i)) (by omega) (fun j' hj => by injection hj; omega) (by omega)
      · rw [if_neg (show ¬ wC f (some j) < f i from c), if_neg c, k_worst69 B1 ik v1' v2']
        exact go
end KWY
section KWZ
variable {Γ : Nat → Option Nat} {h : xH} {k y n x sd al ae pl t m : Nat} {E : Nat → Nat → Nat} {P FE e ps V la : Nat → Nat} {N L : Nat → Int32} {Z : Nat → Prop}
theorem pWo_cg {f g : Nat → Int32} : ∀ (k x : Nat) (b : Option Nat), (∀ j, j < x + k → f j = g j) → (∀ j, b = some j → j < x) → pWo f k x b = pWo g k x b := by
  intro k
  induction k with
  | zero => intro x b _ _; rfl
  | succ k ih =>
    intro x b hf hb
    cases b with
    | none => rw [pWo, pWo]; exact ih _ _ (fun j hj => hf j (by omega)) (fun j hj => by injection hj; omega)
    | some j =>
      have := hb j rfl
      rw [pWo, pWo, hf j (by omega), hf x (by omega)]
      split
      · exact ih _ _ (fun j hj => hf j (by omega)) (fun j' hj => by injection hj; omega)
      · exact ih _ _ (fun j hj => hf j (by omega)) (fun j' hj => by injection hj; omega)
theorem kBk.mp (B : kBk h m k y e ps V) : yW h 16 m := B.1.choose_spec.choose_spec.choose_spec.choose_spec.choose_spec.choose_spec.1.1
theorem kBk.ch (B : kBk h m k y e ps V) : kCh h m := ⟨B.2.2.2.2.1, B.2.2.2.2.2.1⟩
theorem k_worstYear1 (W : kW h x sd al ae pl E P FE N) (ht : t < nn (N 0)) (hb : xbd n h) (B : kBo h (P t) m e ps V N L t) (hz : ∀ i, i < nn (N 2) → ¬ Z (V i)) : ∃ h' dc ds, fX1_worstYear x (Int32.ofNat t) Γ h n = some (.inl (pWorst L N t), h', dc, ds) ∧ dc ≤ 2 ∧ ds ≤ 5 ∧ hq Z h h' ∧ xbd (n + dc) h' := by
  have hP : yO h 20 (P t) := (W.2.2.2.2 t ht).1.1
  have g5 := e_gR (Γ := Γ) (n := n) hP kn20_5
  rw [B.1] at g5
  obtain ⟨s, h1, dc, ds, e1, e2, e3, e4, e5, e6, e7⟩ := k_entrySet (Γ := Γ) (Z := Z) B.2.2.1.mp B.2.2.1.ch hb
  have B1 := B.hq hP hz e4
  have i1 := k_it13 (Γ := Γ) B1.2.2.1 e6 e7 e5
  have k10 := B1.2.2.1.2.2.2.2.2.2.1
  obtain ⟨lb, w1⟩ := k_worst25 (Γ := Γ) (n := n + dc + 1) (it := n + dc) (f := fun i => L ((i * 4 + t) * 7 + 5)) B1.2.2.1 (e5 _ (Nat.le_refl _)) (fun i hi' => ⟨(B1.2.2.2 i hi').1, (B1.2.2.2 i hi').2 5 (by omega)⟩) (nn (N 2)) 0 xFU none none (by omega) (fun j hj => nomatch hj) (by unfold xFU; omega)
  refine ⟨kJ13 h1 (n + dc) none lb (yi h1 16 5 m) m, dc + 1, ds + 4, ?_, by omega, by omega, e4.trans (hsub_up (e5 _ (Nat.le_refl _))).q, by rw [← Nat.add_assoc]; exact xbd_up1 e5⟩
  have ep : pWorst L N t = wV (pFY N) (pWo (fun i => L ((i * 4 + t) * 7 + 5)) (nn (N 2)) 0 none) := by
    unfold pWorst wV
    rw [pWo_cg (f := fun k => pLP L N t k 5) (g := fun i => L ((i * 4 + t) * 7 + 5)) (nn (N 2)) 0 none (fun j hj => by unfold pLP; rw [if_neg (by omega)]) (fun j hj => nomatch hj)]
    cases pWo (fun i => L ((i * 4 + t) * 7 + 5)) (nn (N 2)) 0 none <;> rfl
  unfold fX1_worstYear
  dsimp only [xlet]
  rw [x_b1 (kw_x W |>.trans (k_herd1 W ht)), x_b1 (kh_0 (kw_hd W ht)), x_b1 g5, x_bc e1, x_bc ((e_sel e6).trans i1)]
  rw [show fX1_worstYear_p25 xFU (-1) 0 (some (n + dc)) = fX1_worstYear_p25 xFU (wV (pFY N) none) (wC (fun i => L ((i * 4 + t) * 7 + 5)) none) (some (n + dc)) from rfl, w1, ep]
  rfl
theorem k_worstYear0 (W : kW h x sd al ae pl E P FE N) {p : Int32} (hp : ¬ vS N p) : fX1_worstYear x p Γ h n = some (.inr n, kNx h n 8, 1, 6) := by
  unfold fX1_worstYear
  dsimp only [xlet]
  rw [x_bx (kw_x W |>.trans (k_herd0 W hp))]
end KWZ
