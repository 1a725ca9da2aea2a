/-! part 543: a LinkedList -/
/-- the list li has the nodes D 0 .. D (c - 1) that hold the items T 0 .. T (c - 1) -/
def kLl (h : xH) (li c : Nat) (D T : Nat → Nat) : Prop := yW h 6 li ∧ yi h 6 1 li = Int32.ofNat c ∧ yr h 6 2 li = (if 0 < c then some (D 0) else none) ∧ yr h 6 3 li = (if 0 < c then some (D (c - 1)) else none) ∧ c ≤ 20 ∧ (∀ i, i < c → yW h 25 (D i) ∧ yr h 25 0 (D i) = some (T i) ∧ yr h 25 1 (D i) = (if i + 1 < c then some (D (i + 1)) else none) ∧ yr h 25 2 (D i) = (if 0 < i then some (D (i - 1)) else none)) ∧ ∀ i j, i < c → j < c → D i = D j → i = j
theorem i_half : ∀ c : Nat, c < 21 → Int32.ofNat c >>> ((1 : Int32) &&& 31) = Int32.ofNat (c / 2) := by decide
theorem i_dec : ∀ c : Nat, c < 21 → Int32.ofNat (c + 1) + (-1 : Int32) = Int32.ofNat c := by decide
section KLL
variable {Γ : Nat → Option Nat} {h g : xH} {n li c : Nat} {D T : Nat → Nat}
theorem kLl.cg (H : kLl h li c D T) (e1 : g li = h li) (e2 : ∀ i, i < c → g (D i) = h (D i)) : kLl g li c D T := by
  obtain ⟨h1, h2, h3, h4, h5, h6, h7⟩ := H
  refine ⟨(yW_c e1).mpr h1, (yi_c e1).trans h2, (yr_c e1).trans h3, (yr_c e1).trans h4, h5, fun i hi => ?_, h7⟩
  obtain ⟨k1, k2, k3, k4⟩ := h6 i hi
  exact ⟨(yW_c (e2 i hi)).mpr k1, (yr_c (e2 i hi)).trans k2, (yr_c (e2 i hi)).trans k3, (yr_c (e2 i hi)).trans k4⟩
theorem kLl.mono (H : kLl h li c D T) (hs : hsub h g) : kLl g li c D T := H.cg (hs _ (yO_at (yO_of _ _ _ H.1))) (fun i hi => hs _ (yO_at (yO_of _ _ _ (H.2.2.2.2.2.1 i hi).1)))
theorem kLl.hq {Z : Nat → Prop} (H : kLl h li c D T) (q : hq Z h g) : kLl g li c D T := H.cg (q.o (yO_of _ _ _ H.1) (by omega) (by omega)) (fun i hi => q.o (yO_of _ _ _ (H.2.2.2.2.2.1 i hi).1) (by omega) (by omega))
theorem k_llSize (H : kLl h li c D T) : xgI 6 1 (some li) Γ h n = some (.inl (Int32.ofNat c), h, 0, 0) := by rw [e_gI (yO_of _ _ _ H.1) kn6_1, H.2.1]
theorem k_llItem (H : kLl h li c D T) {i : Nat} (hi : i < c) : xgR 25 0 (some (D i)) Γ h n = some (.inl (some (T i)), h, 0, 0) := by rw [e_gR (yO_of _ _ _ (H.2.2.2.2.2.1 i hi).1) kn25_0, (H.2.2.2.2.2.1 i hi).2.1]
theorem k_llNext (H : kLl h li c D T) {i : Nat} (hi : i < c) : xgR 25 1 (some (D i)) Γ h n = some (.inl (if i + 1 < c then some (D (i + 1)) else none), h, 0, 0) := by rw [e_gR (yO_of _ _ _ (H.2.2.2.2.2.1 i hi).1) kn25_1, (H.2.2.2.2.2.1 i hi).2.2.1]
theorem k_llPrev (H : kLl h li c D T) {i : Nat} (hi : i < c) : xgR 25 2 (some (D i)) Γ h n = some (.inl (if 0 < i then some (D (i - 1)) else none), h, 0, 0) := by rw [e_gR (yO_of _ _ _ (H.2.2.2.2.2.1 i hi).1) kn25_2, (H.2.2.2.2.2.1 i hi).2.2.2]
theorem k_node17 (H : kLl h li c D T) {i : Nat} (hi : i < c) : ∀ (d j fu : Nat), j + d = i → d < fu → fJ19_node_p17 fu (Int32.ofNat i) (some (D j)) (Int32.ofNat j) Γ h n = some (.inl (some (D i)), h, 0, 0) := by
  have i1 : (1 : Int32) = Int32.ofNat 1 := rfl
  have c20 := H.2.2.2.2.1
  intro d
  induction d with
  | zero =>
    intro j fu hj hf
    obtain ⟨fu, rfl⟩ : ∃ g, fu = g + 1 := ⟨fu - 1, by omega⟩
    obtain rfl : j = i := by omega
    rw [fJ19_node_p17, if_pos (by rw [i_le (by omega) (by omega)]; omega)]
    rfl
  | succ d ih =>
    intro j fu hj hf
    obtain ⟨fu, rfl⟩ : ∃ g, fu = g + 1 := ⟨fu - 1, by omega⟩
    have g1 := k_llNext (Γ := Γ) (n := n) H (show j < c by omega)
    rw [if_pos (by omega)] at g1
    rw [fJ19_node_p17, if_neg (by rw [i_le (by omega) (by omega)]; omega), x_b1 g1]
    dsimp only [xlet]
    rw [i1, i_add]
    exact ih (j + 1) fu (by omega) (by omega)
theorem k_node47 (H : kLl h li c D T) {i : Nat} : ∀ (d j fu : Nat), i + d = j → j < c → d < fu → fJ19_node_p47 fu (Int32.ofNat i) (some (D j)) (Int32.ofNat j) Γ h n = some (.inl (some (D i)), h, 0, 0) := by
  have c20 := H.2.2.2.2.1
  intro d
  induction d with
  | zero =>
    intro j fu hj hc hf
    obtain ⟨fu, rfl⟩ : ∃ g, fu = g + 1 := ⟨fu - 1, by omega⟩
    obtain rfl : j = i := by omega
    rw [fJ19_node_p47, if_pos (by rw [i_le (by omega) (by omega)]; omega)]
    rfl
  | succ d ih =>
    intro j fu hj hc hf
    obtain ⟨fu, rfl⟩ : ∃ g, fu = g + 1 := ⟨fu - 1, by omega⟩
    have g1 := k_llPrev (Γ := Γ) (n := n) H hc
    rw [if_pos (by omega)] at g1
    rw [fJ19_node_p47, if_neg (by rw [i_le (by omega) (by omega)]; omega), x_b1 g1]
    dsimp only [xlet]
    obtain ⟨j, rfl⟩ : ∃ q, j = q + 1 := ⟨j - 1, by omega⟩
    rw [i_dec j (by omega)]
    exact ih j fu (by omega) (by omega) (by omega)
theorem k_llNode (H : kLl h li c D T) {i : Nat} (hi : i < c) : xsel (some li) [(6, fun z => fJ19_node z (Int32.ofNat i))] Γ h n = some (.inl (some (D i)), h, 0, 0) := by
  have i1 : (1 : Int32) = Int32.ofNat 1 := rfl
  have i0 : (0 : Int32) = Int32.ofNat 0 := rfl
  have c20 := H.2.2.2.2.1
  have o := yO_of _ _ _ H.1
  have g2 := e_gR (Γ := Γ) (n := n) o kn6_2
  have g3 := e_gR (Γ := Γ) (n := n) o kn6_3
  rw [H.2.2.1, if_pos (by omega)] at g2
  rw [H.2.2.2.1, if_pos (by omega)] at g3
  rw [e_sel o]
  unfold fJ19_node
  rw [x_b1 (k_llSize H), i_half c (by omega)]
  by_cases q : c / 2 ≤ i
  · rw [if_pos (by rw [i_le (by omega) (by omega)]; exact q), x_b1 g3, x_b1 (k_llSize H)]
    dsimp only [xlet]
    rw [i1, i_sub (by omega)]
    exact k_node47 H (c - 1 - i) (c - 1) xFU (by omega) (by omega) (by unfold xFU; omega)
  · rw [if_neg (by rw [i_le (by omega) (by omega)]; exact q), x_b1 g2]
    dsimp only [xlet]
    rw [i0]
    exact k_node17 H hi i 0 xFU (by omega) (by unfold xFU; omega)
theorem k_llGet (H : kLl h li c D T) {i : Nat} (hi : i < c) : xsel (some li) [(6, fun z => fJ19_get z (Int32.ofNat i))] Γ h n = some (.inl (some (T i)), h, 0, 0) := by
  have i0 : (0 : Int32) = Int32.ofNat 0 := rfl
  have n10 : ¬ (1 : Int32) = 0 := by decide
  have c20 := H.2.2.2.2.1
  have o := yO_of _ _ _ H.1
  have e1 : xsel (some li) [(6, fun z => fJ19_isElementIndex z (Int32.ofNat i))] Γ h n = some (.inl 1, h, 0, 0) := by
    rw [e_sel o]
    unfold fJ19_isElementIndex
    rw [i0, if_neg (by rw [i_lt (by omega) (by omega)]; omega), x_b1 (k_llSize H), if_neg (by rw [i_le (by omega) (by omega)]; omega)]
    rfl
  have e2 : xsel (some li) [(6, fun z => fJ19_checkElementIndex z (Int32.ofNat i))] Γ h n = some (.inl (), h, 0, 0) := by
    rw [e_sel o]
    unfold fJ19_checkElementIndex
    rw [x_b1 e1, if_neg n10]
    rfl
  rw [e_sel o]
  unfold fJ19_get
  rw [x_b1 e2, x_b1 (k_llNode H hi), x_b1 (k_llItem H hi)]
  rfl
end KLL
