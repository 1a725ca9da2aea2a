/-! part 576: an action is recorded -/
section RC
variable {Γ : Nat → Option Nat} {h : xH} {n x hi c mx : Nat} {b Dh T0 P FE D T B M : Nat → Nat} {E : Nat → Nat → Nat} {N : Nat → Int32}
theorem k_rec20 (X1 : yW h 0 x) (X2 : yr h 0 4 x = some (b 0)) (X3 : yr h 0 5 x = some hi) (L : kLl h hi c Dh T0) (hc : c < 8) (F : kFs h b E P FE N mx D T B M) (s1 : b 3 ≠ hi) (s2 : ∀ j, j < nn (N 3) → ∀ k, k < c → D j ≠ Dh k) (hb : xbd n h) :
    ∃ g E' D' T' dc ds, fX1_record_p20 x Γ h n = some (.inl (some (n + 1)), g, dc, ds) ∧ dc ≤ 61 ∧ ds ≤ 910 ∧ xbd (n + dc) g ∧ yW g 0 x ∧ yr g 0 4 x = some (n + 1) ∧ (∀ k, k ≠ 4 → yr g 0 k x = yr h 0 k x) ∧ (∀ k, yi g 0 k x = yi h 0 k x) ∧ kLl g hi (c + 1) (va_up Dh c n) (va_up T0 c (b 0)) ∧ kFs g (fun k => n + 1 + k) E' P FE N mx D' T' B M ∧ kFr (nn (N 0)) (n + 6) (n + dc) E' ∧ (∀ j, j < nn (N 3) → n + 6 ≤ D' j) ∧ (∀ t k j, t < nn (N 0) → k < 7 → j < nn (N 3) → E' t k ≠ D' j) ∧ (∀ q, h q ≠ none → q ≠ x → q ≠ hi → (∀ k, k < c → q ≠ Dh k) → g q = h q) ∧ (∀ q, h q ≠ none → yhd g q = yhd h q) := by
  have oX := yO_of _ _ _ X1
  have oL := yO_of _ _ _ L.1
  have g5 := e_gR (Γ := Γ) (n := n) oX kn0_5
  rw [X3] at g5
  have g4 := e_gR (Γ := Γ) (n := n) oX kn0_4
  rw [X2] at g4
  obtain ⟨g1, a1, a2, a3, a4, a5⟩ := k_llAdd (Γ := Γ) (v := b 0) L hb (by omega)
  have al : xsel (some hi) [(6, fun z => fJ19_addLast z (some (b 0)))] Γ h n = some (.inl (), g1, 1, 3) := by
    rw [e_sel oL]
    unfold fJ19_addLast
    rw [x_bc ((e_sel oL).trans a1)]
    rfl
  have ne : ∀ q, h q ≠ none → q ≠ n := fun q hq z => hq (by rw [z]; exact hb n (by omega))
  have k1 : hK h g1 := fun q hq hcl => by
    refine a5 q (ne q hq) (fun z => ?_) (fun i hi' z => ?_)
    · exact (hcl 6 (by rw [z]; exact oL)).2.1 rfl
    · exact (hcl 25 (by rw [z]; exact yO_of _ _ _ (L.2.2.2.2.2.1 i hi').1)).2.2.1 rfl
  have xn : x ≠ hi := yO_ne oX oL (by omega)
  have xD : ∀ i, i < c → x ≠ Dh i := fun i hi' => yO_ne oX (yO_of _ _ _ (L.2.2.2.2.2.1 i hi').1) (by omega)
  have ex : g1 x = h x := a5 x (ne x (yO_at oX)) xn xD
  have F1 : kFs g1 b E P FE N mx D T B M := by
    have lst := F.2.1.1
    refine F.k k1 (a5 _ (ne _ (yO_at (yO_of _ _ _ lst.1))) s1 (fun i hi' => yO_ne (yO_of _ _ _ lst.1) (yO_of _ _ _ (L.2.2.2.2.2.1 i hi').1) (by omega))) (fun j hj => ?_)
    have yD := yO_of _ _ _ (lst.2.2.2.2.2.1 j hj).1
    exact a5 _ (ne _ (yO_at yD)) (yO_ne yD oL (by omega)) (fun i hi' => s2 j hj i hi')
  obtain ⟨f1, f2, f3, f4, f5, f6⟩ := F1
  have oX1 : yO g1 0 x := (yO_c ex).mpr oX
  have g4' := e_gR (Γ := Γ) (n := n + 1) oX1 kn0_4
  rw [yr_c ex, X2] at g4'
  obtain ⟨g2, E', D', T', dc, ds, r1, r2, r3, r4, r5, r6, r7, r8, r9, r10, r11⟩ := k_sCopy (Γ := Γ) f1 f6 f4 f5 f2 f3 a3
  have W2 : yW g2 0 x := (yW_c (r4 _ (yO_at oX1))).mpr ((yW_c ex).mpr X1)
  have e2 : g2 x = h x := (r4 _ (yO_at oX1)).trans ex
  have xl : x < n := xbd_lt hb (yO_at oX)
  let g3 : xH := ysr g2 0 4 x (some (n + 1))
  have p3 : xput 0 4 (some x) (va_rf (some (n + 1))) Γ g2 (n + 1 + dc) = some (.inl (), g3, 0, 0) := e_put W2 (by rw [ykd_rf]; exact kn0_4)
  have W3 : yW g3 0 x := (yW_sv _ _ _ _ _ _ _).mpr W2
  have v3 : yr g3 0 4 x = some (n + 1) := by rw [yr_sr W2 kn0_4, if_pos ⟨rfl, rfl, rfl⟩]
  have g6 := e_gR (Γ := Γ) (n := n + 1 + dc) (yO_of _ _ _ W3) kn0_4
  rw [v3] at g6
  have e3 : ∀ q, q ≠ x → g3 q = g2 q := fun q hq => ysv_ne W2 hq
  have hd3 : ∀ q, yhd g3 q = yhd g2 q := fun q => yhd_sv _ _ _ _ _ _
  have k3 : hK g2 g3 := fun q hq hcl => e3 q (fun z => (hcl 0 (by rw [z]; exact yO_of _ _ _ W2)).1 rfl)
  have nd1 : g1 n ≠ none := by
    have := a2.2.2.2.2.2.1 c (by omega)
    rw [va_ap, if_pos rfl] at this
    exact yO_at (yO_of _ _ _ this.1)
  have o1 : ∀ q, h q ≠ none → g1 q ≠ none := fun q hq => hd_at (a4 q (ne q hq)) hq
  have F3 : kFs g3 (fun k => n + 1 + k) E' P FE N mx D' T' B M := by
    refine kFs.k (h := g2) ⟨r6, r7, r8, f4, f5, fun t ht => (f6 t ht).mono r4⟩ k3 (e3 _ (by omega)) (fun j hj => e3 _ (by have := r10 j hj; omega))
  have L2 := a2.mono r4
  refine ⟨g3, E', D', T', 1 + dc, 3 + ds, ?_, by omega, by omega, ?_, W3, v3, ?_, ?_, ?_, F3, ?_, ?_, ?_, ?_, ?_⟩
  · unfold fX1_record_p20
    rw [x_b1 g5, x_b1 g4, x_bc al, x_b1 g4', x_bc r1, x_b1 p3, x_b1 g6]
    rfl
  · have := xbd_hd r5 hd3
    rw [show n + (1 + dc) = n + 1 + dc by omega]
    exact this
  · intro k hk
    rw [yr_sr W2 kn0_4, if_neg (fun z => hk z.2.1), yr_c e2]
  · intro k
    rw [k_yi_r W2 kn0_4, yi_c e2]
  · refine L2.cg (e3 _ xn.symm) (fun i hi' => e3 _ (fun z => ?_))
    have y1 := yO_of _ _ _ (L2.2.2.2.2.2.1 i hi').1
    exact absurd (yO_uq (d := 0) y1 (by rw [z]; exact yO_of _ _ _ W2)) (by omega)
  · refine ⟨fun t k ht hk => ?_, r9.2⟩
    have := r9.1 t k ht hk
    omega
  · intro j hj
    have := r10 j hj
    omega
  · exact r11
  · intro q hq h1 h2 h3
    rw [e3 q h1, r4 q (o1 q hq)]
    exact a5 q (ne q hq) h2 h3
  · intro q hq
    rw [hd3 q, yhd_c (r4 q (o1 q hq)), a4 q (ne q hq)]
end RC
