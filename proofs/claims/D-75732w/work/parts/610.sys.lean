/-! part 610: the system's own numbers -/
section SY
variable {Γ : Nat → Option Nat} {h : xH} {n x hi dep k : Nat} {Dh P FE mx : Nat → Nat} {a D T B M : Nat → Nat → Nat} {E : Nat → Nat → Nat → Nat} {Nn : Nat → Nat → Int32} {v : Int32}
/-- a number of the system's own cell is set -/
theorem kHs.px (H : kHs h x hi dep Dh a E P FE Nn mx D T B M) (hk : (ykn 0)[k]? = some 0) : kHs (ysi h 0 k x v) x hi dep Dh a E P FE Nn mx D T B M := by
  obtain ⟨h1, h2, h3, h4, h5, h6, h7⟩ := H
  have oX := yO_of _ _ _ h1
  have ne : ∀ {c q : Nat}, yO h c q → c ≠ 0 → ysi h 0 k x v q = h q := fun hq hc => ysv_ne h1 (yO_ne hq oX hc)
  have kk : hK h (ysi h 0 k x v) := fun q hq hcl => ysv_ne h1 (fun z => (hcl 0 (by rw [z]; exact oX)).1 rfl)
  have k3 : ∀ j, (ykn 0)[j]? = some 3 → ¬ (0 = 0 ∧ j = k) := fun j hj z => by
    rw [z.2, hk] at hj
    injection hj with hj
    omega
  refine ⟨(yW_sv _ _ _ _ _ _ _).mpr h1, (yr_si h1 hk _ _ _ (k3 4 kn0_4)).trans h2, (yr_si h1 hk _ _ _ (k3 5 kn0_5)).trans h3, h4, h5.cg (ne (yO_of _ _ _ h5.1) (by omega)) (fun i hi' => ne (yO_of _ _ _ (h5.2.2.2.2.2.1 i hi').1) (by omega)), fun i hi' => ?_, h7⟩
  have F := h6 i hi'
  exact F.k kk (ne (yO_of _ _ _ F.2.1.1.1) (by omega)) (fun j hj => ne (yO_of _ _ _ (F.2.1.1.2.2.2.2.2.1 j hj).1) (by omega))
theorem k_errorOffset (oX : yO h 0 x) : fX1_errorOffset x Γ h n = some (.inl (yi h 0 2 x), h, 0, 0) := by
  unfold fX1_errorOffset
  rw [x_b1 (e_gI oX kn0_2)]
  rfl
theorem k_errorKind (oX : yO h 0 x) : fX1_errorKind x Γ h n = some (.inl (yi h 0 3 x), h, 0, 0) := by
  unfold fX1_errorKind
  rw [x_b1 (e_gI oX kn0_3)]
  rfl
theorem k_undoDepth (H : kHs h x hi dep Dh a E P FE Nn mx D T B M) : fX1_undoDepth x Γ h n = some (.inl (Int32.ofNat dep), h, 0, 0) := by
  have oX := yO_of _ _ _ H.1
  have L := H.2.2.2.2.1
  have g5 := e_gR (Γ := Γ) (n := n) oX kn0_5
  rw [H.2.2.1] at g5
  have sz : xsel (some hi) [(6, fun z => fJ19_size z)] Γ h n = some (.inl (Int32.ofNat dep), h, 0, 0) := by
    rw [e_sel (yO_of _ _ _ L.1)]
    unfold fJ19_size
    rw [x_b1 (k_llSize L)]
    rfl
  unfold fX1_undoDepth
  rw [x_b1 g5, x_b1 sz]
  rfl
theorem k_truncate (W : yW h 0 x) : fX1_truncate x v Γ h n = if ¬ v < Int32.ofNat 0 ∧ v ≤ yi h 0 1 x then some (.inl (Int32.ofNat 1), ysi h 0 1 x v, 0, 0) else some (.inl (Int32.ofNat 0), h, 0, 0) := by
  have i0 : (0 : Int32) = Int32.ofNat 0 := rfl
  have i1 : (1 : Int32) = Int32.ofNat 1 := rfl
  have p1 : xput 0 1 (some x) (.int v) Γ h n = some (.inl (), ysi h 0 1 x v, 0, 0) := e_put W kn0_1
  unfold fX1_truncate
  rw [x_b1 (e_gI (yO_of _ _ _ W) kn0_1), i0, i1, x_b1 (k_inRange _ _ _)]
  by_cases c : ¬ v < Int32.ofNat 0 ∧ v ≤ yi h 0 1 x
  · rw [if_pos c, decide_eq_true ⟨Int32.not_lt.mp c.1, c.2⟩, b2i_t, if_neg b2i_1, x_b1 p1]
    rfl
  · rw [if_neg c, decide_eq_false (fun z => c ⟨Int32.not_lt.mpr z.1, z.2⟩), b2i_f, if_pos rfl]
    rfl
end SY
