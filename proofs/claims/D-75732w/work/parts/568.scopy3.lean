/-! part 568: a state is copied, whole -/
section SC3
variable {Γ : Nat → Option Nat} {h : xH} {n al ae st pl mx : Nat} {E : Nat → Nat → Nat} {P FE D T B M : Nat → Nat} {N : Nat → Int32}
theorem k_sCopy62 {c m1 : Nat} {g0 : xH} (hb : xbd n h) (hm1 : n + 5 ≤ m1) (L : kLl h pl c D T) (hT : ∀ i, i < c → yO h 38 (T i)) (c12 : c ≤ 12) (gn0 : g0 n = some (true, .inr (1, [.ref (n + 1), .ref (n + 3), .int 0, .int 0, .int 0]))) (s0 : hsub h g0) :
    ∀ (r i fu : Nat) (g : xH) (D' T' : Nat → Nat), i + r = c → r < fu → (∀ a, a < m1 → a ≠ n + 3 → g a = g0 a) → xbd (m1 + 1 + i) g → kLl g (n + 3) i D' T' → (∀ j, j < i → T' j = T j ∧ m1 + 1 ≤ D' j) → kIl g m1 pl i c D →
    ∃ g' D'' T'', fX2_copy_p62 fu st n (some m1) Γ g (m1 + 1 + i) = xadd r (3 * r) ((xbind (xgI 1 2 (some st)) fun v95 => xbind (xput 1 2 (some n) (.int v95)) fun _ => xbind (xgI 1 3 (some st)) fun v103 => xbind (xput 1 3 (some n) (.int v103)) fun _ => xbind (xgI 1 4 (some st)) fun v111 => xbind (xput 1 4 (some n) (.int v111)) fun _ => xpure (some n)) Γ g' (m1 + 1 + c)) ∧ (∀ a, a < m1 → a ≠ n + 3 → g' a = g0 a) ∧ xbd (m1 + 1 + c) g' ∧ kLl g' (n + 3) c D'' T'' ∧ (∀ j, j < c → T'' j = T j ∧ m1 + 1 ≤ D'' j) := by
  intro r
  induction r with
  | zero =>
    intro i fu g D' T' hi hf hg hbm L' hD I
    obtain ⟨fu, rfl⟩ : ∃ g, fu = g + 1 := ⟨fu - 1, by omega⟩
    obtain rfl : i = c := by omega
    have Lg : kLl g pl i D T := L.cg (by
      have := xbd_lt hb (yO_at (yO_of _ _ _ L.1))
      rw [hg _ (by omega) (by omega)]
      exact s0 _ (yO_at (yO_of _ _ _ L.1))) (fun j hj => by
      have y := yO_at (yO_of _ _ _ (L.2.2.2.2.2.1 j hj).1)
      have := xbd_lt hb y
      rw [hg _ (by omega) (by omega)]
      exact s0 _ y)
    have hh := k_ilHas (Γ := Γ) (n := m1 + 1 + i) Lg I (Nat.le_refl _)
    rw [if_neg (by omega)] at hh
    refine ⟨g, D', T', ?_, hg, hbm, L', hD⟩
    rw [fX2_copy_p62, x_b1 hh, if_pos (by decide), xadd_0]
  | succ r ih =>
    intro i fu g D' T' hi hf hg hbm L' hD I
    obtain ⟨fu, rfl⟩ : ∃ g, fu = g + 1 := ⟨fu - 1, by omega⟩
    have old : ∀ a, h a ≠ none → g a = h a := fun a ha => by
      have := xbd_lt hb ha
      rw [hg _ (by omega) (by omega)]
      exact s0 _ ha
    have Lg : kLl g pl c D T := L.cg (old _ (yO_at (yO_of _ _ _ L.1))) (fun j hj => old _ (yO_at (yO_of _ _ _ (L.2.2.2.2.2.1 j hj).1)))
    have hh := k_ilHas (Γ := Γ) (n := m1 + 1 + i) Lg I (show i ≤ c by omega)
    rw [if_pos (by omega)] at hh
    obtain ⟨g1, e1, e2, e3, e4⟩ := k_ilNext (Γ := Γ) (n := m1 + 1 + i) Lg I (show i < c by omega)
    have ltT := xbd_lt hb (yO_at (hT i (by omega)))
    have c38 : xcst (fun c => c == 38) (some (T i)) Γ g1 (m1 + 1 + i) = some (.inl (), g1, 0, 0) := k_cst ((yO_c ((e3 _ (by omega)).trans (old _ (yO_at (hT i (by omega)))))).mpr (hT i (by omega))) rfl
    have gn1 : g1 n = some (true, .inr (1, [.ref (n + 1), .ref (n + 3), .int 0, .int 0, .int 0])) := (e3 _ (by omega)).trans ((hg _ (by omega) (by omega)).trans gn0)
    have gr : xgR 1 1 (some n) Γ g1 (m1 + 1 + i) = some (.inl (some (n + 3)), g1, 0, 0) := by
      unfold xgR xget xobj
      simp only [gn1]
      rfl
    have neD : ∀ j, j < i → D' j ≠ m1 := fun j hj => by have := (hD j hj).2; omega
    have L1 : kLl g1 (n + 3) i D' T' := L'.cg (e3 _ (by omega)) (fun j hj => e3 _ (neD j hj))
    have b1 : xbd (m1 + 1 + i) g1 := xbd_hd hbm e4
    obtain ⟨g2, a1, a2, a3, a4, a5⟩ := k_llAdd (Γ := Γ) (v := T i) L1 b1 (by omega)
    have o1 := yO_of _ _ _ L1.1
    have ad : xsel (some (n + 3)) [(6, fun z => fJ19_add z (some (T i)))] Γ g1 (m1 + 1 + i) = some (.inl 1, g2, 1, 3) := by
      rw [e_sel o1]
      unfold fJ19_add
      rw [x_bc ((e_sel o1).trans a1)]
      rfl
    have fr : ∀ a, a < m1 + 1 → a ≠ n + 3 → g2 a = g1 a := fun a h1 h2 => a5 a (by omega) h2 (fun j hj => by have := (hD j hj).2; omega)
    have plo : pl < n := xbd_lt hb (yO_at (yO_of _ _ _ L.1))
    obtain ⟨g', D'', T'', r1, r2⟩ := ih (i + 1) fu g2 (va_up D' i (m1 + 1 + i)) (va_up T' i (T i)) (by omega) (by omega) (fun a h1 h2 => (fr a (by omega) h2).trans ((e3 a (by omega)).trans (hg a h1 h2))) a3 a2 (fun j hj => by
      rw [va_ap, va_ap]
      by_cases e : j = i
      · rw [if_pos e, if_pos e, e]
        exact ⟨rfl, by omega⟩
      · rw [if_neg e, if_neg e]
        exact hD j (by omega)) (e2.cg (fr _ (by omega) (by omega)) (fr _ (by omega) (by omega)))
    refine ⟨g', D'', T'', ?_, r2⟩
    rw [fX2_copy_p62, x_b1 hh, if_neg (by decide), x_b1 e1, x_b1 c38, x_b1 gr, x_bc ad, show m1 + 1 + i + 1 = m1 + 1 + (i + 1) by omega, r1, xadd_add, show 1 + r = r + 1 by omega, show 3 + 3 * r = 3 * (r + 1) by omega]
theorem k_sCopy (S : kSta h st al ae pl E P N) (Sp : ∀ t, t < nn (N 0) → kSpN h (P t) (FE t) N t) (ok : okN N) (fl : okG N) (PS : kPs h pl N mx D T B M) (hmk : yi h 1 4 st = Int32.ofNat mx) (hb : xbd n h) : ∃ g E' D' T' dc ds, xsel (some st) [(1, fun z => fX2_copy z)] Γ h n = some (.inl (some n), g, dc, ds) ∧ dc ≤ 60 ∧ ds ≤ 900 ∧ hsub h g ∧ xbd (n + dc) g ∧ kSta g n (n + 1) (n + 2) (n + 3) E' P N ∧ kPs g (n + 3) N mx D' T' B M ∧ yi g 1 4 n = Int32.ofNat mx ∧ kFr (nn (N 0)) (n + 5) (n + dc) E' ∧ (∀ j, j < nn (N 3) → n + 5 ≤ D' j) ∧ ∀ t k j, t < nn (N 0) → k < 7 → j < nn (N 3) → E' t k ≠ D' j := by
  obtain ⟨L, Pr, TI, TS⟩ := PS
  have n0 := ok.1
  have c4 := ok.2.1
  unfold nN at n0
  have A : kAl h al ae (nn (N 0)) (fun t => E t 0) := ⟨S.2.2.2.2.2.1, S.2.2.2.2.2.2.1, S.2.2.2.2.2.2.2.1, S.2.2.2.2.2.2.2.2.1, by rw [← n0]; exact S.2.2.2.2.2.2.2.2.2.1, c4, S.2.2.2.2.2.2.2.2.2.2.1⟩
  have Hd := S.2.2.2.2.2.2.2.2.2.2.2
  have oS := yO_of _ _ _ S.1
  have nw : xnew 1 [.null, .null, .int 0, .int 0, .int 0] 5 Γ h n = some (.inl n, xX h n [(true, .inr (1, [.null, .null, .int 0, .int 0, .int 0]))], 1, 5) := by
    have := X_new (Γ := Γ) (h := h) (n := n) (m := n) (L := []) (ci := 1) (fs := [.null, .null, .int 0, .int 0, .int 0]) (sz := 5) rfl
    rw [xX_nil hb] at this
    exact this
  let G0 : xH := xX h n (sC0 n)
  have sG : hsub h G0 := xX_sub hb
  have bG : xbd (n + 4) G0 := xX_bd (h := h) (n := n) (L := sC0 n)
  have AG : kAl G0 al ae (nn (N 0)) (fun t => E t 0) := A.cg (sG _ (yO_at (yO_of _ _ _ A.1))) (sG _ (yA_at (yA_of _ _ _ A.2.2.1)))
  have gal : xgR 1 0 (some st) Γ G0 (n + 4) = some (.inl (some al), G0, 0, 0) := by
    rw [e_gR (hO oS sG) kn1_0, yr_c (sG _ (yO_at oS)), S.2.1]
  obtain ⟨g1, i1, i2, i3, i4⟩ := k_iaNew (Γ := Γ) AG bG
  have nz : ∀ {a : Nat} {c : xAC}, G0 a = some c → G0 a ≠ none := fun e z => by rw [e] at z; nomatch z
  have gn : G0 n = some (true, .inr (1, [.ref (n + 1), .ref (n + 3), .int 0, .int 0, .int 0])) := xX_at (i := 0)
  have g3 : G0 (n + 3) = some (true, .inr (6, [.int 0, .int 0, .null, .null])) := xX_at (i := 3)
  have A0 : kAl G0 (n + 1) (n + 2) 0 (fun _ => 0) := ⟨X_W (i := 1) rfl rfl, X_yr (i := 1) (v := some (n + 2)) rfl rfl, X_B (i := 2) rfl rfl, X_yln (i := 2) rfl, X_yi (i := 1) rfl rfl, by omega, fun t ht => absurd ht (by omega)⟩
  have A1 : kAl g1 (n + 1) (n + 2) 0 (fun _ => 0) := A0.cg (i3 _ (yO_at (yO_of _ _ _ A0.1))) (i3 _ (yA_at (yA_of _ _ _ A0.2.2.1)))
  obtain ⟨g2, E', dc, ds, r1, r2, r3, r4, r5, r6, r7, r8, r9, r10⟩ := k_sCopy18 (Γ := Γ) (st := st) hb A Hd Sp fl (nn (N 0)) 0 xFU (n + 5) g1 (fun _ _ => 0) (by omega) (by unfold xFU; omega) (by omega) (sG.trans i3) i4 ((i3 _ (nz gn)).trans gn) ((i3 _ (nz g3)).trans g3) A1 i2 (fun j hj => absurd hj (by omega)) ⟨fun t k ht => absurd ht (by omega), fun t k t' k' ht => absurd ht (by omega)⟩
  have gpl : xgR 1 1 (some st) Γ g2 (n + 5 + dc) = some (.inl (some pl), g2, 0, 0) := by
    rw [e_gR (hO oS r4) kn1_1, yr_c (r4 _ (yO_at oS)), S.2.2.1]
  obtain ⟨g4, j1, j2, j3, j4⟩ := k_ilNew (Γ := Γ) (L.mono r4) r5
  have nz2 : ∀ {a : Nat} {c : xAC}, g2 a = some c → g2 a ≠ none := fun e z => by rw [e] at z; nomatch z
  have c12 := Pr.1
  have hT : ∀ i, i < nn (N 3) → yO h 38 (T i) := fun i hi => by
    obtain ⟨j, q1, q2⟩ := (TS (T i)).mp ⟨i, hi, rfl⟩
    rw [← q2]
    exact (Pr.2.1 j q1).1.1
  have gn4 : g4 n = some (true, .inr (1, [.ref (n + 1), .ref (n + 3), .int 0, .int 0, .int 0])) := (j3 _ (nz2 r6)).trans r6
  have g34 : g4 (n + 3) = some (true, .inr (6, [.int 0, .int 0, .null, .null])) := (j3 _ (nz2 r7)).trans r7
  have L0 : kLl g4 (n + 3) 0 (fun _ => 0) (fun _ => 0) := by
    refine ⟨by unfold yW yhd; rw [g34]; rfl, by unfold yi yv; rw [g34]; rfl, by unfold yr yv; rw [g34]; rfl, by unfold yr yv; rw [g34]; rfl, by omega, fun i hi => absurd hi (by omega), fun i j hi => absurd hi (by omega)⟩
  obtain ⟨g5, D', T', k1, k2, k3, k4, k5⟩ := k_sCopy62 (Γ := Γ) (st := st) (m1 := n + 5 + dc) (g0 := g4) hb (by omega) L hT c12 gn4 (r4.trans j3) (nn (N 3)) 0 xFU g4 (fun _ => 0) (fun _ => 0) (by omega) (by unfold xFU; omega) (fun _ _ _ => rfl) j4 L0 (fun j hj => absurd hj (by omega)) j2
  have s5 : hsub h g5 := fun a ha => by
    have := xbd_lt hb ha
    rw [k2 a (by omega) (by omega)]
    exact (r4.trans j3) a ha
  have gn5 : g5 n = some (true, .inr (1, [.ref (n + 1), .ref (n + 3), .int 0, .int 0, .int 0])) := (k2 _ (by omega) (by omega)).trans gn4
  let c1 : xAC := (true, .inr (1, [.ref (n + 1), .ref (n + 3), .int (N 1), .int 0, .int 0]))
  let c2 : xAC := (true, .inr (1, [.ref (n + 1), .ref (n + 3), .int (N 1), .int (N 2), .int 0]))
  let c3 : xAC := (true, .inr (1, [.ref (n + 1), .ref (n + 3), .int (N 1), .int (N 2), .int (Int32.ofNat mx)]))
  have stn : st < n := xbd_lt hb (yO_at oS)
  have rd : ∀ k c v, (ykn 1)[k]? = some 0 → yi h 1 k st = v → xgI 1 k (some st) Γ (xupd g5 n c) (n + 5 + dc + 1 + nn (N 3)) = some (.inl v, xupd g5 n c, 0, 0) := fun k c v hk hv => by
    have e : xupd g5 n c st = h st := (up_ne (by omega)).trans (s5 _ (yO_at oS))
    rw [e_gI ((yO_c e).mpr oS) hk, yi_c e, hv]
  have rd0 : xgI 1 2 (some st) Γ g5 (n + 5 + dc + 1 + nn (N 3)) = some (.inl (N 1), g5, 0, 0) := by
    have e := s5 _ (yO_at oS)
    rw [e_gI ((yO_c e).mpr oS) kn1_2, yi_c e, S.2.2.2.1]
  have p1 : xput 1 2 (some n) (.int (N 1)) Γ g5 (n + 5 + dc + 1 + nn (N 3)) = some (.inl (), xupd g5 n c1, 0, 0) := by
    unfold xput
    simp only [gn5]
    rw [if_pos ⟨trivial, by simp⟩]
    rfl
  have p2 : xput 1 3 (some n) (.int (N 2)) Γ (xupd g5 n c1) (n + 5 + dc + 1 + nn (N 3)) = some (.inl (), xupd g5 n c2, 0, 0) := o1_p (by simp)
  have p3 : xput 1 4 (some n) (.int (Int32.ofNat mx)) Γ (xupd g5 n c2) (n + 5 + dc + 1 + nn (N 3)) = some (.inl (), xupd g5 n c3, 0, 0) := o1_p (by simp)
  have b5 : xbd (n + (6 + dc + nn (N 3))) (xupd g5 n c3) := fun a ha => by
    rw [up_ne (by omega)]
    exact k3 a (by omega)
  have sF : hsub h (xupd g5 n c3) := fun a ha => by
    have := xbd_lt hb ha
    rw [up_ne (by omega)]
    exact s5 a ha
  have fr : ∀ a, a < n + 5 + dc → a ≠ n + 3 → a ≠ n → xupd g5 n c3 a = g2 a ∨ g2 a = none := fun a h1 h2 h3 => by
    rw [up_ne h3, k2 a h1 h2]
    by_cases z : g2 a = none
    · exact Or.inr z
    · exact Or.inl (j3 a z)
  have fr' : ∀ {a}, a < n + 5 + dc → a ≠ n + 3 → a ≠ n → g2 a ≠ none → xupd g5 n c3 a = g2 a := fun h1 h2 h3 h4 => (fr _ h1 h2 h3).resolve_right h4
  have AF : kAl (xupd g5 n c3) (n + 1) (n + 2) (nn (N 0)) (fun j => E' j 0) := r8.cg (fr' (by omega) (by omega) (by omega) (yO_at (yO_of _ _ _ r8.1))) (fr' (by omega) (by omega) (by omega) (yA_at (yA_of _ _ _ r8.2.2.1)))
  have LF : kLl (xupd g5 n c3) (n + 3) (nn (N 3)) D' T' := k4.cg (up_ne (by omega)) (fun i hi => up_ne (by have := (k5 i hi).2; omega))
  have cn : xupd g5 n c3 n = some c3 := up_self
  refine ⟨xupd g5 n c3, E', D', T', 6 + dc + nn (N 3), 25 + ds + 3 * nn (N 3), ?_, by omega, by omega, sF, b5, ⟨?_, ?_, ?_, ?_, ?_, AF.1, AF.2.1, AF.2.2.1, AF.2.2.2.1, ?_, AF.2.2.2.2.2.2, fun t ht => ?_⟩, ⟨LF, Pr.sub sF, ?_, ?_⟩, ?_, ⟨?_, r10.2⟩, ?_, ?_⟩
  · rw [e_sel oS]
    unfold fX2_copy
    rw [x_bc nw, x_bc k_sInit, show n + 1 + 3 = n + 4 from rfl, x_b1 gal, x_bc ((e_sel (yO_of _ _ _ AG.1)).trans i1), show n + 4 + 1 = n + 5 from rfl, r1, x_b1 gpl, x_bc ((e_sel (yO_of _ _ _ (L.mono r4).1)).trans j1), show n + 5 + dc + 1 = n + 5 + dc + 1 + 0 from rfl, k1, x_b1 rd0, x_b1 p1, x_b1 (rd 3 _ _ kn1_3 S.2.2.2.2.1), x_b1 p2, x_b1 (rd 4 _ _ kn1_4 hmk), x_b1 p3]
    show some _ = some _
    congr 3
    · congr 1
      · omega
      · omega
  · unfold yW yhd; rw [cn]; rfl
  · unfold yr yv; rw [cn]; rfl
  · unfold yr yv; rw [cn]; rfl
  · unfold yi yv; rw [cn]; rfl
  · unfold yi yv; rw [cn]; rfl
  · rw [AF.2.2.2.2.1, ← n0]
  · refine (r9 t ht).cg (fun k hk => ?_) (fun q hq => ?_)
    · have := r10.1 t k ht (by omega)
      exact fr' (by omega) (by omega) (by omega) ((r9 t ht).at k hk)
    · have z := yO_at hq
      have := xbd_lt r5 z
      refine fr' (by omega) (fun e => ?_) (fun e => ?_) z
      · exact absurd (yO_uq hq (c := 37) (d := 6) ⟨true, by rw [e]; unfold yhd; rw [r7]; rfl⟩) (by omega)
      · exact absurd (yO_uq hq (c := 37) (d := 1) ⟨true, by rw [e]; unfold yhd; rw [r6]; rfl⟩) (by omega)
  · intro i j hi hj e
    rw [(k5 i hi).1, (k5 j hj).1] at e
    exact TI i j hi hj e
  · intro a
    rw [← TS a]
    constructor
    · rintro ⟨i, hi, e⟩
      exact ⟨i, hi, by rw [← (k5 i hi).1]; exact e⟩
    · rintro ⟨i, hi, e⟩
      exact ⟨i, hi, by rw [(k5 i hi).1]; exact e⟩
  · unfold yi yv; rw [cn]; rfl
  · intro t k ht hk
    have := r10.1 t k ht hk
    omega
  · intro j hj
    have := (k5 j hj).2
    omega
  · intro t k j ht hk hj
    have := r10.1 t k ht hk
    have := (k5 j hj).2
    omega
end SC3
