/-! part 545: the iterator of a LinkedList -/
def kIl (h : xH) (it li i c : Nat) (D : Nat → Nat) : Prop := yW h 9 it ∧ yr h 9 1 it = (if i < c then some (D i) else none) ∧ yi h 9 2 it = Int32.ofNat i ∧ yi h 9 3 it = yi h 6 0 li ∧ yr h 9 4 it = some li
section KIL
variable {Γ : Nat → Option Nat} {h g : xH} {n li c it i : Nat} {D T : Nat → Nat}
theorem kIl.cg (H : kIl h it li i c D) (e1 : g it = h it) (e2 : g li = h li) : kIl g it li i c D := by
  obtain ⟨h1, h2, h3, h4, h5⟩ := H
  exact ⟨(yW_c e1).mpr h1, (yr_c e1).trans h2, (yi_c e1).trans h3, by rw [yi_c e1, yi_c e2]; exact h4, (yr_c e1).trans h5⟩
theorem k_ilHas (A : kLl h li c D T) (I : kIl h it li i c D) (hi : i ≤ c) : xsel (some it) [(9, fun z => fJ24_hasNext z)] Γ h n = some (.inl (if i < c then Int32.ofNat 1 else Int32.ofNat 0), h, 0, 0) := by
  obtain ⟨h1, h2, h3, h4, h5⟩ := I
  have o := yO_of _ _ _ h1
  have c20 := A.2.2.2.2.1
  have g2 := e_gI (Γ := Γ) (n := n) o kn9_2
  have g4 := e_gR (Γ := Γ) (n := n) o kn9_4
  rw [h3] at g2
  rw [h5] at g4
  rw [e_sel o]
  unfold fJ24_hasNext
  rw [x_b1 g2, x_b1 g4, x_b1 (k_llSize A)]
  by_cases q : i < c
  · rw [if_pos q, if_neg (by rw [i_le (by omega) (by omega)]; omega)]; rfl
  · rw [if_neg q, if_pos (by rw [i_le (by omega) (by omega)]; omega)]; rfl
theorem k_ilNext (A : kLl h li c D T) (I : kIl h it li i c D) (hi : i < c) : ∃ g, xsel (some it) [(9, fun z => fJ24_next z)] Γ h n = some (.inl (some (T i)), g, 0, 0) ∧ kIl g it li (i + 1) c D ∧ (∀ a, a ≠ it → g a = h a) ∧ ∀ a, yhd g a = yhd h a := by
  have i1 : (1 : Int32) = Int32.ofNat 1 := rfl
  have n10 : ¬ Int32.ofNat 1 = 0 := by decide
  have hs := k_ilHas (Γ := Γ) (n := n) A I (by omega)
  rw [if_pos hi] at hs
  obtain ⟨h1, h2, h3, h4, h5⟩ := I
  rw [if_pos hi] at h2
  have o := yO_of _ _ _ h1
  have oa := yO_of _ _ _ A.1
  have nel : li ≠ it := fun z => absurd (yO_uq oa (by rw [z]; exact o)) (by omega)
  have neD : ∀ j, j < c → D j ≠ it := fun j hj z => absurd (yO_uq (yO_of _ _ _ (A.2.2.2.2.2.1 j hj).1) (by rw [z]; exact o)) (by omega)
  have gl := e_gR (Γ := Γ) (n := n) o kn9_4
  rw [h5] at gl
  have gm := e_gI (Γ := Γ) (n := n) oa kn6_0
  have gc := e_gI (Γ := Γ) (n := n) o kn9_3
  rw [h4] at gc
  have ck : xsel (some it) [(9, fun z => fJ24_checkForComodification z)] Γ h n = some (.inl (), h, 0, 0) := by
    rw [e_sel o]
    unfold fJ24_checkForComodification
    rw [x_b1 gl, x_b1 gm, x_b1 gc, if_pos rfl]
    rfl
  have f1 := e_gR (Γ := Γ) (n := n) o kn9_1
  rw [h2] at f1
  let a1 : xH := ysr h 9 0 it (some (D i))
  have W1 : yW a1 9 it := (yW_sv _ _ _ _ _ _ _).mpr h1
  have p1 : xput 9 0 (some it) (va_rf (some (D i))) Γ h n = some (.inl (), a1, 0, 0) := e_put h1 (by rw [ykd_rf]; exact kn9_0)
  have q1 : ∀ a, a ≠ it → a1 a = h a := fun a ha => ysv_ne h1 ha
  have A1 : kLl a1 li c D T := A.cg (q1 _ nel) (fun j hj => q1 _ (neD j hj))
  have f2 := e_gR (Γ := Γ) (n := n) (yO_of _ _ _ W1) kn9_1
  rw [show yr a1 9 1 it = some (D i) by rw [yr_sr h1 kn9_0, if_neg (by omega)]; exact h2] at f2
  let a2 : xH := ysr a1 9 1 it (if i + 1 < c then some (D (i + 1)) else none)
  have W2 : yW a2 9 it := (yW_sv _ _ _ _ _ _ _).mpr W1
  have p2 : xput 9 1 (some it) (va_rf (if i + 1 < c then some (D (i + 1)) else none)) Γ a1 n = some (.inl (), a2, 0, 0) := e_put W1 (by rw [ykd_rf]; exact kn9_1)
  have q2 : ∀ a, a ≠ it → a2 a = a1 a := fun a ha => ysv_ne W1 ha
  have f3 := e_gI (Γ := Γ) (n := n) (yO_of _ _ _ W2) kn9_2
  rw [show yi a2 9 2 it = Int32.ofNat i by rw [yi_sr W1 kn9_1 _ _ _ (by omega), yi_sr h1 kn9_0 _ _ _ (by omega)]; exact h3] at f3
  let a3 : xH := ysi a2 9 2 it (Int32.ofNat (i + 1))
  have W3 : yW a3 9 it := (yW_sv _ _ _ _ _ _ _).mpr W2
  have p3 : xput 9 2 (some it) (.int (Int32.ofNat (i + 1))) Γ a2 n = some (.inl (), a3, 0, 0) := e_put W2 kn9_2
  have q3 : ∀ a, a ≠ it → a3 a = h a := fun a ha => (ysv_ne W2 ha).trans ((q2 a ha).trans (q1 a ha))
  have f4 := e_gR (Γ := Γ) (n := n) (yO_of _ _ _ W3) kn9_0
  rw [show yr a3 9 0 it = some (D i) by rw [yr_si W2 kn9_2 _ _ _ (by omega), yr_sr W1 kn9_1, if_neg (by omega), yr_sr h1 kn9_0, if_pos ⟨rfl, rfl, rfl⟩]] at f4
  have A3 : kLl a3 li c D T := A.cg (q3 _ nel) (fun j hj => q3 _ (neD j hj))
  refine ⟨a3, ?_, ⟨W3, ?_, ?_, ?_, ?_⟩, q3, fun a => (yhd_sv _ _ _ _ _ _).trans ((yhd_sv _ _ _ _ _ _).trans (yhd_sv _ _ _ _ _ _))⟩
  · rw [e_sel o]
    unfold fJ24_next
    rw [x_b1 ck, x_b1 hs, if_neg n10, x_b1 f1, x_b1 p1, x_b1 f2, x_b1 (k_llNext A1 hi), x_b1 p2, x_b1 f3, i1, i_add, x_b1 p3, x_b1 f4, x_b1 (k_llItem A3 hi)]
    rfl
  · rw [yr_si W2 kn9_2 _ _ _ (by omega), yr_sr W1 kn9_1, if_pos ⟨rfl, rfl, rfl⟩]
  · rw [yi_si W2 kn9_2, if_pos ⟨rfl, rfl, rfl⟩]
  · rw [yi_c (q3 _ nel), yi_si W2 kn9_2, if_neg (by omega), yi_sr W1 kn9_1 _ _ _ (by omega), yi_sr h1 kn9_0 _ _ _ (by omega)]; exact h4
  · rw [yr_si W2 kn9_2 _ _ _ (by omega), yr_sr W1 kn9_1, if_neg (by omega), yr_sr h1 kn9_0, if_neg (by omega)]; exact h5
end KIL
