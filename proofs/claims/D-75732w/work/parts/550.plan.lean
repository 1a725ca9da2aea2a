/-! part 550: the component's plans: a plan object, the order of plans -/
/-- a kind's constant that has the number v -/
def kKd (h : xH) (kc : Nat) (v : Int32) : Prop := ∃ k, k < 3 ∧ v = Int32.ofNat k ∧ yO h (50 + k) kc ∧ yi h (50 + k) 0 kc = Int32.ofNat k
/-- the plan a has the row R and was made as number mk -/
def kPl (h : xH) (a : Nat) (R : Nat → Int32) (mk : Nat) : Prop := yO h 38 a ∧ yi h 38 0 a = R 0 ∧ (∃ kc, yr h 38 1 a = some kc ∧ kKd h kc (R 1)) ∧ yi h 38 2 a = R 2 ∧ yi h 38 3 a = R 3 ∧ yi h 38 4 a = R 4 ∧ yi h 38 5 a = Int32.ofNat mk
/-- a right row -/
def okR (R : Nat → Int32) (mk : Nat) : Prop := (∀ w, w < 4 → nN (R w)) ∧ nn (R 0) ≤ 9999 ∧ nn (R 1) < 3 ∧ nn (R 2) < 4 ∧ nn (R 3) < 13 ∧ mk < 1000000
/-- a plan's turn as one number -/
def pKy (R : Nat → Int32) (mk : Nat) : Nat := (((nn (R 0) * 3 + nn (R 1)) * 4 + nn (R 2)) * 13 + nn (R 3)) * 1000000 + mk
theorem nn_lt (v : Int32) : nn v < 2147483648 := by
  show v.toInt.toNat < 2147483648
  have := Int32.toInt_lt v
  omega
section KPL
variable {Γ : Nat → Option Nat} {h g : xH} {n a b z mk mj : Nat} {R V : Nat → Int32}
theorem kKd.cg {v : Int32} (H : kKd h a v) (e : g a = h a) : kKd g a v := by
  obtain ⟨k, k1, k2, k3, k4⟩ := H
  exact ⟨k, k1, k2, (yO_c e).mpr k3, (yi_c e).trans k4⟩
theorem kPl.sub (H : kPl h a R mk) (hs : hsub h g) : kPl g a R mk := by
  obtain ⟨h1, h2, ⟨kc, h3, h4⟩, h5, h6, h7, h8⟩ := H
  have e := hs _ (yO_at h1)
  have e' : g kc = h kc := by
    obtain ⟨k, k1, k2, k3, k4⟩ := h4
    exact hs _ (yO_at k3)
  exact ⟨(yO_c e).mpr h1, (yi_c e).trans h2, ⟨kc, (yr_c e).trans h3, h4.cg e'⟩, (yi_c e).trans h5, (yi_c e).trans h6, (yi_c e).trans h7, (yi_c e).trans h8⟩
/-- the plan depends on its own cell and on a constant's -/
theorem kPl.cg (H : kPl h a R mk) (e : ∀ q c, yO h c q → (c = 38 ∨ (50 ≤ c ∧ c < 53)) → g q = h q) : kPl g a R mk := by
  obtain ⟨h1, h2, ⟨kc, h3, h4⟩, h5, h6, h7, h8⟩ := H
  have e0 := e _ _ h1 (Or.inl rfl)
  have e' : g kc = h kc := by
    obtain ⟨k, k1, k2, k3, k4⟩ := h4
    exact e _ _ k3 (Or.inr (by omega))
  exact ⟨(yO_c e0).mpr h1, (yi_c e0).trans h2, ⟨kc, (yr_c e0).trans h3, h4.cg e'⟩, (yi_c e0).trans h5, (yi_c e0).trans h6, (yi_c e0).trans h7, (yi_c e0).trans h8⟩
theorem kPl.hq {Z : Nat → Prop} (H : kPl h a R mk) (q : hq Z h g) : kPl g a R mk := H.cg (fun r c h1 h2 => q.o h1 (by omega) (by omega))
theorem k_ord {v : Int32} (H : kKd h a v) : xsel (some a) [(50, fun z => fJ31_ordinal__X23 z), (51, fun z => fJ31_ordinal__X24 z), (52, fun z => fJ31_ordinal__X25 z)] Γ h n = some (.inl v, h, 0, 0) := by
  obtain ⟨k, k1, k2, k3, k4⟩ := H
  rcases (show k = 0 ∨ k = 1 ∨ k = 2 by omega) with rfl | rfl | rfl
  · have g1 := e_gI (Γ := Γ) (n := n) k3 kn50_0
    rw [k4] at g1
    rw [e_sel k3]
    unfold fJ31_ordinal__X23
    rw [x_b1 g1, k2]
    rfl
  · have g1 := e_gI (Γ := Γ) (n := n) k3 kn51_0
    rw [k4] at g1
    rw [e_sel2 k3 (by omega), e_sel k3]
    unfold fJ31_ordinal__X24
    rw [x_b1 g1, k2]
    rfl
  · have g1 := e_gI (Γ := Γ) (n := n) k3 kn52_0
    rw [k4] at g1
    rw [e_sel2 k3 (by omega), e_sel2 k3 (by omega), e_sel k3]
    unfold fJ31_ordinal__X25
    rw [x_b1 g1, k2]
    rfl
theorem k_plPart (H : kPl h a R mk) {w : Nat} (hw : w < 5) : xsel (some a) [(38, fun z => fX18_part z (Int32.ofNat w))] Γ h n = some (.inl (R w), h, 0, 0) := by
  have i0 : (0 : Int32) = Int32.ofNat 0 := rfl
  have i1 : (1 : Int32) = Int32.ofNat 1 := rfl
  have i2 : (2 : Int32) = Int32.ofNat 2 := rfl
  have i3 : (3 : Int32) = Int32.ofNat 3 := rfl
  obtain ⟨h1, h2, ⟨kc, h3, h4⟩, h5, h6, h7, h8⟩ := H
  rw [e_sel h1]
  unfold fX18_part
  rcases (show w = 0 ∨ w = 1 ∨ w = 2 ∨ w = 3 ∨ w = 4 by omega) with rfl | rfl | rfl | rfl | rfl
  · have g1 := e_gI (Γ := Γ) (n := n) h1 kn38_0
    rw [if_pos (by decide), x_b1 g1, h2]
    rfl
  · have g1 := e_gR (Γ := Γ) (n := n) h1 kn38_1
    rw [h3] at g1
    rw [if_neg (by decide), if_pos (by decide), x_b1 g1, x_b1 (k_ord h4)]
    rfl
  · have g1 := e_gI (Γ := Γ) (n := n) h1 kn38_2
    rw [if_neg (by decide), if_neg (by decide), if_pos (by decide), x_b1 g1, h5]
    rfl
  · have g1 := e_gI (Γ := Γ) (n := n) h1 kn38_3
    rw [if_neg (by decide), if_neg (by decide), if_neg (by decide), if_pos (by decide), x_b1 g1, h6]
    rfl
  · have g1 := e_gI (Γ := Γ) (n := n) h1 kn38_4
    rw [if_neg (by decide), if_neg (by decide), if_neg (by decide), if_neg (by decide), x_b1 g1, h7]
    rfl
/-- one round of the comparison -/
theorem k_cmpP2 (HA : kPl h a R mk) (HB : kPl h b V mj) (oA : okR R mk) (oB : okR V mj) {w fu : Nat} (hw : w < 4) : fX16_compare_2_p2 (fu + 1) (some a) (some b) (Int32.ofNat w) Γ h n = if nn (R w) = nn (V w) then fX16_compare_2_p2 fu (some a) (some b) (Int32.ofNat (w + 1)) Γ h n else some (.inl (if nn (V w) ≤ nn (R w) then 1 else -1), h, 0, 0) := by
  have i4 : (4 : Int32) = Int32.ofNat 4 := rfl
  have i1 : (1 : Int32) = Int32.ofNat 1 := rfl
  have pa := k_plPart (Γ := Γ) (n := n) HA (show w < 5 by omega)
  have pb := k_plPart (Γ := Γ) (n := n) HB (show w < 5 by omega)
  have ra := oA.1 w hw
  have rb := oB.1 w hw
  have la : nn (R w) < 2147483648 := nn_lt _
  have lb : nn (V w) < 2147483648 := nn_lt _
  have qe : (R w = V w) ↔ nn (R w) = nn (V w) := by
    constructor
    · intro z; rw [z]
    · intro z; unfold nN at ra rb; rw [ra, rb, z]
  have ql : (V w ≤ R w) ↔ nn (V w) ≤ nn (R w) := by
    unfold nN at ra rb
    rw [ra, rb, i_le (by omega) (by omega), nn_of la, nn_of lb]
  rw [fX16_compare_2_p2, if_neg (by rw [i4, i_le (by omega) (by omega)]; omega), x_b1 pa, x_b1 pb]
  by_cases c : nn (R w) = nn (V w)
  · rw [if_pos (qe.mpr c), if_pos c]
    dsimp only [xlet]
    rw [i1, i_add]
  · rw [if_neg (fun z => c (qe.mp z)), if_neg c, x_b1 pa, x_b1 pb]
    by_cases d : nn (V w) ≤ nn (R w)
    · rw [if_pos (ql.mpr d), if_pos d]; rfl
    · rw [if_neg (fun z => d (ql.mp z)), if_neg d]; rfl
theorem k_cmpP4 (HA : kPl h a R mk) (HB : kPl h b V mj) (oA : okR R mk) (oB : okR V mj) {fu : Nat} : fX16_compare_2_p2 (fu + 1) (some a) (some b) (Int32.ofNat 4) Γ h n = some (.inl (if mk < mj then -1 else if mj < mk then 1 else 0), h, 0, 0) := by
  have i4 : (4 : Int32) = Int32.ofNat 4 := rfl
  have ga := e_gI (Γ := Γ) (n := n) HA.1 kn38_5
  rw [HA.2.2.2.2.2.2] at ga
  have gb := e_gI (Γ := Γ) (n := n) HB.1 kn38_5
  rw [HB.2.2.2.2.2.2] at gb
  have la := oA.2.2.2.2.2
  have lb := oB.2.2.2.2.2
  rw [fX16_compare_2_p2, if_pos (by rw [i4, i_le (by omega) (by omega)]; omega), x_b1 ga, x_b1 gb]
  by_cases c : mj ≤ mk
  · rw [if_pos (by rw [i_le (by omega) (by omega)]; exact c), x_b1 ga, x_b1 gb, if_neg (show ¬ mk < mj by omega)]
    by_cases d : mk ≤ mj
    · rw [if_pos (by rw [i_le (by omega) (by omega)]; exact d), if_neg (by omega)]; rfl
    · rw [if_neg (by rw [i_le (by omega) (by omega)]; exact d), if_pos (by omega)]; rfl
  · rw [if_neg (by rw [i_le (by omega) (by omega)]; exact c), if_pos (by omega)]; rfl
theorem k_cmpPl (hz : yO h 34 z) (HA : kPl h a R mk) (HB : kPl h b V mj) (oA : okR R mk) (oB : okR V mj) : xsel (some z) [(34, fun z => fX16_compare z (some a) (some b))] Γ h n = some (.inl (if pKy R mk < pKy V mj then -1 else if pKy V mj < pKy R mk then 1 else 0), h, 0, 0) := by
  obtain ⟨fu, hfu⟩ : ∃ g, xFU = g + 1 + 1 + 1 + 1 + 1 := ⟨999995, rfl⟩
  have i0 : (0 : Int32) = Int32.ofNat 0 := rfl
  have e : fX16_compare_2 z (some a) (some b) Γ h n = some (.inl (if pKy R mk < pKy V mj then -1 else if pKy V mj < pKy R mk then 1 else 0), h, 0, 0) := by
    unfold fX16_compare_2
    dsimp only [xlet]
    rw [hfu, i0, k_cmpP2 HA HB oA oB (by omega), k_cmpP2 HA HB oA oB (by omega), k_cmpP2 HA HB oA oB (by omega), k_cmpP2 HA HB oA oB (by omega), k_cmpP4 HA HB oA oB]
    obtain ⟨-, a0, a1, a2, a3, a4⟩ := oA
    obtain ⟨-, b0, b1, b2, b3, b4⟩ := oB
    unfold pKy
    generalize nn (R 0) = r0 at *
    generalize nn (R 1) = r1 at *
    generalize nn (R 2) = r2 at *
    generalize nn (R 3) = r3 at *
    generalize nn (V 0) = v0 at *
    generalize nn (V 1) = v1 at *
    generalize nn (V 2) = v2 at *
    generalize nn (V 3) = v3 at *
    by_cases c0 : r0 = v0
    · rw [if_pos c0]
      by_cases c1 : r1 = v1
      · rw [if_pos c1]
        by_cases c2 : r2 = v2
        · rw [if_pos c2]
          by_cases c3 : r3 = v3
          · rw [if_pos c3, c0, c1, c2, c3]
            simp only [Nat.add_lt_add_iff_left]
            rfl
          · rw [if_neg c3]
            by_cases d : v3 ≤ r3
            · rw [if_pos d, if_neg (by omega), if_pos (by omega)]
            · rw [if_neg d, if_pos (by omega)]
        · rw [if_neg c2]
          by_cases d : v2 ≤ r2
          · rw [if_pos d, if_neg (by omega), if_pos (by omega)]
          · rw [if_neg d, if_pos (by omega)]
      · rw [if_neg c1]
        by_cases d : v1 ≤ r1
        · rw [if_pos d, if_neg (by omega), if_pos (by omega)]
        · rw [if_neg d, if_pos (by omega)]
    · rw [if_neg c0]
      by_cases d : v0 ≤ r0
      · rw [if_pos d, if_neg (by omega), if_pos (by omega)]
      · rw [if_neg d, if_pos (by omega)]
  rw [e_sel hz]
  unfold fX16_compare
  rw [x_b1 (k_cst HA.1 rfl), x_b1 (k_cst HB.1 rfl), x_b1 ((e_sel hz).trans e)]
  rfl
end KPL
