/-! part 587: the plans of the present state change -/
section PD
variable {Γ : Nat → Option Nat} {g g' : xH} {n m m' x hi dep st pl c mx mx' : Nat} {Dh P FE : Nat → Nat} {a D T B M : Nat → Nat → Nat} {E : Nat → Nat → Nat → Nat} {Nn : Nat → Nat → Int32} {mxs : Nat → Nat} {N N' : Nat → Int32} {D0 T0 B0 M0 : Nat → Nat}
theorem k_drop2 {i0 : Nat} (hS : yO g 1 st) (hp : yr g 1 1 st = some pl) (L : kLl g pl (c + 1) D0 T0) (hT : qI T0 (c + 1)) (hi0 : i0 < c + 1) (y38 : yO g 38 (T0 i0)) : ∃ g', (∀ k i fu, i + k = i0 → k < fu → fX2_drop_p2 fu st (some (T0 i0)) (Int32.ofNat i) Γ g m = some (.inl (), g', 0, 0)) ∧ kLl g' pl c (fun j => if j < i0 then D0 j else D0 (j + 1)) (fun j => if j < i0 then T0 j else T0 (j + 1)) ∧ (∀ q, yhd g' q = yhd g q) ∧ ∀ q, q ≠ pl → (∀ j, j < c + 1 → q ≠ D0 j) → g' q = g q := by
  obtain ⟨g', r1, r2, r3, r4⟩ := k_llRem (Γ := Γ) (n := m) L hi0
  have gp := e_gR (Γ := Γ) (n := m) hS kn1_1
  rw [hp] at gp
  have c20 := L.2.2.2.2.1
  have y' : yO g' 38 (T0 i0) := (hd_O (r3 _)).mpr y38
  refine ⟨g', ?_, r2, r3, r4⟩
  intro k
  induction k with
  | zero =>
    intro i fu hi hf
    obtain ⟨fu, rfl⟩ : ∃ g, fu = g + 1 := ⟨fu - 1, by omega⟩
    obtain rfl : i = i0 := by omega
    rw [fX2_drop_p2, x_b1 gp, x_b1 (k_llGet L hi0), if_pos rfl, x_b1 gp, x_b1 r1, x_b1 (k_cst y' rfl)]
    rfl
  | succ k ih =>
    intro i fu hi hf
    obtain ⟨fu, rfl⟩ : ∃ g, fu = g + 1 := ⟨fu - 1, by omega⟩
    have i1 : (1 : Int32) = Int32.ofNat 1 := rfl
    rw [fX2_drop_p2, x_b1 gp, x_b1 (k_llGet L (show i < c + 1 by omega)), if_neg (fun z => by
      injection z with z
      have := hT i i0 (by omega) hi0 z
      omega), xlet_ap, i1, i_add]
    exact ih (i + 1) fu (by omega) (by omega)
/-- a row of plans is taken out -/
theorem pRem_row {k cnt j w : Nat} (hj : j < cnt - 1) (hw : w < 5) : pRw (pRem N k cnt) j w = pRw N (if j < k then j else j + 1) w := by
  unfold pRw pRem
  rw [if_neg (by omega)]
  by_cases c0 : j < k
  · rw [if_pos c0, if_neg (by omega)]
  · rw [if_neg c0, if_pos (by omega)]
    congr 1
    omega
theorem kPs.rem {g : xH} {k i0 : Nat} (L' : kLl g' pl c (fun j => if j < i0 then D0 j else D0 (j + 1)) (fun j => if j < i0 then T0 j else T0 (j + 1))) (hc : nn (N 3) = c + 1) (Pr : kPr g' N (c + 1) mx B0 M0) (TI : qI T0 (c + 1)) (TS : ∀ a, qS T0 (c + 1) a ↔ qS B0 (c + 1) a) (BI : qI B0 (c + 1)) (hi0 : i0 < c + 1) (hk : k < c + 1) (e : T0 i0 = B0 k) : kPs g' pl (pRem N k (c + 1)) mx (fun j => if j < i0 then D0 j else D0 (j + 1)) (fun j => if j < i0 then T0 j else T0 (j + 1)) (fun j => if j < k then B0 j else B0 (j + 1)) (fun j => if j < k then M0 j else M0 (j + 1)) := by
  have c12 := Pr.1
  have e3 : nn (pRem N k (c + 1) 3) = c := by
    unfold pRem
    rw [if_pos rfl, Nat.add_sub_cancel, nn_of (by omega)]
  have inS : ∀ {F : Nat → Nat} {r : Nat}, r < c + 1 → qI F (c + 1) → ∀ a, qS (fun j => if j < r then F j else F (j + 1)) c a ↔ qS F (c + 1) a ∧ a ≠ F r := by
    intro F r hr FI a
    constructor
    · rintro ⟨j, hj, z⟩
      dsimp only at z
      by_cases c0 : j < r
      · rw [if_pos c0] at z
        exact ⟨⟨j, by omega, z⟩, fun y => by have := FI j r (by omega) hr (z.trans y); omega⟩
      · rw [if_neg c0] at z
        exact ⟨⟨j + 1, by omega, z⟩, fun y => by have := FI (j + 1) r (by omega) hr (z.trans y); omega⟩
    · rintro ⟨⟨j, hj, z⟩, y⟩
      by_cases c0 : j < r
      · exact ⟨j, by omega, by dsimp only; rw [if_pos c0]; exact z⟩
      · have : j ≠ r := fun q => y (by rw [← z, q])
        exact ⟨j - 1, by omega, by dsimp only; rw [if_neg (by omega), show j - 1 + 1 = j by omega]; exact z⟩
  unfold kPs
  rw [e3]
  refine ⟨L', ⟨by omega, fun j hj => ?_, fun i j ij jc => ?_⟩, fun i j hi' hj z => ?_, fun a' => ?_⟩
  · have q := fun w (hw : w < 5) => pRem_row (N := N) (k := k) (cnt := c + 1) (j := j) (w := w) (by omega) hw
    dsimp only
    have key : ∀ j', j' < c + 1 → (∀ w, w < 5 → pRw (pRem N k (c + 1)) j w = pRw N j' w) → kPl g' (B0 j') (pRw (pRem N k (c + 1)) j) (M0 j') ∧ okR (pRw (pRem N k (c + 1)) j) (M0 j') ∧ M0 j' < mx := by
      intro j' hj' qq
      obtain ⟨⟨k1, k2, k3, k4, k5, k6, k7⟩, ⟨o1, o2, o3, o4, o5, o6⟩, k9⟩ := Pr.2.1 j' hj'
      exact ⟨⟨k1, by rw [qq 0 (by omega)]; exact k2, by rw [qq 1 (by omega)]; exact k3, by rw [qq 2 (by omega)]; exact k4, by rw [qq 3 (by omega)]; exact k5, by rw [qq 4 (by omega)]; exact k6, k7⟩, ⟨fun w hw => by rw [qq w (by omega)]; exact o1 w hw, by rw [qq 0 (by omega)]; exact o2, by rw [qq 1 (by omega)]; exact o3, by rw [qq 2 (by omega)]; exact o4, by rw [qq 3 (by omega)]; exact o5, o6⟩, k9⟩
    by_cases c0 : j < k
    · rw [if_pos c0, if_pos c0]
      exact key j (by omega) (fun w hw => by rw [q w hw, if_pos c0])
    · rw [if_neg c0, if_neg c0]
      exact key (j + 1) (by omega) (fun w hw => by rw [q w hw, if_neg c0])
  · have ky : ∀ j, j < c → pKy (pRw (pRem N k (c + 1)) j) (if j < k then M0 j else M0 (j + 1)) = pKy (pRw N (if j < k then j else j + 1)) (M0 (if j < k then j else j + 1)) := by
      intro j hj
      unfold pKy
      rw [pRem_row (by omega) (by omega), pRem_row (by omega) (by omega), pRem_row (by omega) (by omega), pRem_row (by omega) (by omega)]
      by_cases c0 : j < k
      · rw [if_pos c0, if_pos c0]
      · rw [if_neg c0, if_neg c0]
    dsimp only
    rw [ky i (by omega), ky j jc]
    refine Pr.2.2 _ _ ?_ ?_
    · split <;> split <;> omega
    · split <;> omega
  · dsimp only at z
    by_cases c1 : i < i0
    · by_cases c2 : j < i0
      · rw [if_pos c1, if_pos c2] at z; exact TI i j (by omega) (by omega) z
      · rw [if_pos c1, if_neg c2] at z; have := TI i (j + 1) (by omega) (by omega) z; omega
    · by_cases c2 : j < i0
      · rw [if_neg c1, if_pos c2] at z; have := TI (i + 1) j (by omega) (by omega) z; omega
      · rw [if_neg c1, if_neg c2] at z; have := TI (i + 1) (j + 1) (by omega) (by omega) z; omega
  · rw [inS hi0 TI a', inS hk BI a', TS a', e]
/-- the plans' list of the present state is changed, the herds stay -/
theorem kRec.plans {D' T' B' M' : Nat → Nat} (R : kRec n m g x hi dep Dh a E P FE Nn mxs D T B M) (mm : m ≤ m') (hb' : xbd m' g')
    (fr : ∀ q, g q ≠ none → q ≠ a dep 0 → q ≠ a dep 3 → (∀ j, j < nn (Nn dep 3) → q ≠ D dep j) → g' q = g q) (hd : ∀ q, g q ≠ none → yhd g' q = yhd g q) (f0 : yr g' 1 0 (a dep 0) = yr g 1 0 (a dep 0)) (f1 : yr g' 1 1 (a dep 0) = yr g 1 1 (a dep 0)) (f2 : yi g' 1 2 (a dep 0) = yi g 1 2 (a dep 0)) (f3 : yi g' 1 3 (a dep 0) = yi g 1 3 (a dep 0)) (f4 : yi g' 1 4 (a dep 0) = Int32.ofNat mx')
    (Ps : kPs g' (a dep 3) N' mx' D' T' B' M') (dn : ∀ j, j < nn (N' 3) → (∃ i, i < nn (Nn dep 3) ∧ D' j = D dep i) ∨ m ≤ D' j) (ok : okN N') (e1 : ∀ j, j < 3 → N' j = Nn dep j) (e2 : ∀ j, 64 ≤ j → j < 592 → N' j = Nn dep j) : kRec n m' g' x hi dep Dh a E P FE (va_up Nn dep N') (va_up mxs dep mx') (va_up D dep D') (va_up T dep T') (va_up B dep B') (va_up M dep M') := by
  have F := R.now
  obtain ⟨⟨h1, h2, h3, h4, h5, h6, h7⟩, ⟨b1, b2, b3⟩, lo, an, Fr, Dn, ED, FP, hb⟩ := R
  obtain ⟨⟨s1, s2, s3, s4, s5, s6, s7, s8, s9, s10, s11, s12⟩, ⟨l1, l2, l3, l4⟩, hm, ok0, og, sp⟩ := F
  have a0 := an 0
  have a1 := an 1
  have a2 := an 2
  have a3 := an 3
  have lst := l1
  have nD : ∀ {c q : Nat}, yO g c q → c ≠ 25 → ∀ j, j < nn (Nn dep 3) → q ≠ D dep j := fun hq hc j hj => yO_ne hq (yO_of _ _ _ (lst.2.2.2.2.2.1 j hj).1) hc
  have nA : ∀ {t q : Nat}, yA g t q → ∀ j, j < nn (Nn dep 3) → q ≠ D dep j := fun hq j hj => (yOA_ne (yO_of _ _ _ (lst.2.2.2.2.2.1 j hj).1) hq).symm
  have eO : ∀ {c q : Nat}, yO g c q → c ≠ 25 → c ≠ 6 → c ≠ 1 → g' q = g q := fun hq q1 q2 q3 => fr _ (yO_at hq) (yO_ne hq (yO_of _ _ _ s1) q3) (yO_ne hq (yO_of _ _ _ lst.1) q2) (nD hq q1)
  have eA : ∀ {t q : Nat}, yA g t q → g' q = g q := fun hq => fr _ (yA_at hq) (yOA_ne (yO_of _ _ _ s1) hq).symm (yOA_ne (yO_of _ _ _ lst.1) hq).symm (nA hq)
  have low : ∀ q, q ≤ n → g' q = g q ∨ g q = none := fun q hq => by
    by_cases z : g q = none
    · exact Or.inr z
    · exact Or.inl (fr q z (by omega) (by omega) (fun j hj => by have := Dn j hj; omega))
  have ls : hsub (hLo n g) (hLo n g') := fun q hq => by
    unfold hLo at hq ⊢
    by_cases c : q ≤ n
    · rw [if_pos c] at hq
      rw [if_pos c, if_pos c]
      exact (low q c).resolve_right hq
    · rw [if_neg c] at hq; exact absurd rfl hq
  have W0 : yW g' 1 (a dep 0) := by unfold yW; rw [hd _ (yO_at (yO_of _ _ _ s1))]; exact s1
  have e6 := eO (yO_of _ _ _ s6) (by omega) (by omega) (by omega)
  have e8 := eA (yA_of _ _ _ s8)
  have z4 := ok0.2.1
  have Fs : kFs g' (a dep) (E dep) P FE N' mx' D' T' B' M' := by
    have n0 := e1 0 (by omega)
    have zz : ∀ s w, s < 4 → w < 132 → N' (zI s w) = Nn dep (zI s w) := fun s w hs hw => e2 _ (by unfold zI; omega) (by unfold zI; omega)
    refine ⟨⟨W0, f0.trans s2, f1.trans s3, (f2.trans s4).trans (e1 1 (by omega)).symm, (f3.trans s5).trans (e1 2 (by omega)).symm, (yW_c e6).mpr s6, (yr_c e6).trans s7, (yB_c e8).mpr s8, (yln_c e8).trans s9, ((yi_c e6).trans s10).trans n0.symm, fun t ht => ?_, fun t ht => ?_⟩, Ps, f4, ok, fun t ht => ?_, fun t ht => ?_⟩
    · rw [n0] at ht
      rw [ylr_c e8]; exact s11 t ht
    · rw [n0] at ht
      have K := s12 t ht
      have K' := K
      obtain ⟨k1, k2, k3, k4, k5, k6, k7, k8, k9, ⟨p1, p2, p3⟩, k10, k11, k12, k13, Q, k14, k15⟩ := K'
      refine (K.cg (g := g') (fun k hk => ?_) (fun q hq => eO hq (by omega) (by omega) (by omega))).cgN (ok0.2.2.2.2.2.2.2.2.1 t ht).2.1 (fun w hw => zz t w (by omega) hw)
      rcases (show k = 0 ∨ k = 1 ∨ k = 2 ∨ k = 3 ∨ k = 4 ∨ k = 5 ∨ k = 6 by omega) with rfl | rfl | rfl | rfl | rfl | rfl | rfl
      · exact eO (yO_of _ _ _ k1) (by omega) (by omega) (by omega)
      · exact eA (yA_of _ _ _ p1)
      · exact eO (yO_of _ _ _ k10.1) (by omega) (by omega) (by omega)
      · exact eA (yA_of _ _ _ k10.2.2.2.1)
      · exact eO (yO_of _ _ _ k13.1) (by omega) (by omega) (by omega)
      · exact eO (yO_of _ _ _ k14.1) (by omega) (by omega) (by omega)
      · exact eA (yA_of _ _ _ k14.2.2.1)
    · rw [n0] at ht
      rw [zz t 6 (by omega) (by omega)]; exact og t ht
    · rw [n0] at ht
      obtain ⟨p1, p2⟩ := sp t ht
      have e5 := eA p1.2.2.2.2.1
      refine ⟨by rw [zz t 1 (by omega) (by omega), zz t 2 (by omega) (by omega)]; exact p1.cg (eO p1.1 (by omega) (by omega) (by omega)) e5, fun j hj => ?_⟩
      rw [yli_c e5, p2 j hj, zz t _ (by omega) (by omega)]
  have xc : g' x = g x := eO (yO_of _ _ _ h1) (by omega) (by omega) (by omega)
  have hic : g' hi = g hi := fr _ (yO_at (yO_of _ _ _ h5.1)) (by omega) (h7 dep (Nat.le_refl _)).1.symm (fun j hj => (yO_ne (yO_of _ _ _ h5.1) (yO_of _ _ _ (lst.2.2.2.2.2.1 j hj).1) (by omega)))
  have Dhc : ∀ k, k < dep → g' (Dh k) = g (Dh k) := fun k hk => fr _ (yO_at (yO_of _ _ _ (h5.2.2.2.2.2.1 k hk).1)) (by have := b3 k hk; omega) (by have := b3 k hk; omega) (fun j hj z => (h7 dep (Nat.le_refl _)).2 j hj k hk z.symm)
  have n0 := e1 0 (by omega)
  refine ⟨⟨(yW_c xc).mpr h1, (yr_c xc).trans h2, (yr_c xc).trans h3, h4, h5.cg hic Dhc, fun i hi' => ?_, fun i hi' => ?_⟩, ⟨b1, b2, b3⟩, fun i hi' => ?_, an, ?_, ?_, ?_, ?_, hb'⟩
  · by_cases c0 : i = dep
    · subst c0
      rw [va_ap, va_ap, va_ap, va_ap, va_ap, va_ap, if_pos rfl, if_pos rfl, if_pos rfl, if_pos rfl, if_pos rfl, if_pos rfl]
      exact Fs
    · rw [va_ap, va_ap, va_ap, va_ap, va_ap, va_ap, if_neg c0, if_neg c0, if_neg c0, if_neg c0, if_neg c0, if_neg c0]
      exact ((lo i (by omega)).mono ls).mono (hLo_sub (fun _ _ => rfl))
  · rw [va_ap, va_ap]
    by_cases c0 : i = dep
    · rw [if_pos c0, if_pos c0, c0]
      refine ⟨(h7 dep (Nat.le_refl _)).1, fun j hj k hk => ?_⟩
      rcases dn j hj with ⟨i', i1, i2⟩ | z
      · rw [i2]; exact (h7 dep (Nat.le_refl _)).2 i' i1 k hk
      · have := b3 k hk
        have := xbd_lt hb (yO_at (yO_of _ _ _ s1))
        omega
    · rw [if_neg c0, if_neg c0]; exact h7 i hi'
  · rw [va_ap, va_ap, va_ap, va_ap, va_ap, va_ap, if_neg (by omega), if_neg (by omega), if_neg (by omega), if_neg (by omega), if_neg (by omega), if_neg (by omega)]
    exact (lo i hi').mono ls
  · rw [va_ap, if_pos rfl, n0]
    exact ⟨fun t k ht hk => by have := Fr.1 t k ht hk; omega, Fr.2⟩
  · rw [va_ap, va_ap, if_pos rfl, if_pos rfl]
    intro j hj
    rcases dn j hj with ⟨i', i1, i2⟩ | z
    · rw [i2]; exact Dn i' i1
    · have := xbd_lt hb (yO_at (yO_of _ _ _ lst.1))
      omega
  · rw [va_ap, va_ap, if_pos rfl, if_pos rfl, n0]
    intro t k j ht hk hj
    rcases dn j hj with ⟨i', i1, i2⟩ | z
    · rw [i2]; exact ED t k i' ht hk i1
    · have := Fr.1 t k ht hk
      omega
  · rw [va_ap, if_pos rfl, n0]
    exact FP
end PD
