/-! part 546: a new iterator of a LinkedList -/
section KIM
variable {Γ : Nat → Option Nat} {h : xH} {n li c : Nat} {D T : Nat → Nat}
theorem k_ilNew (A : kLl h li c D T) (hb : xbd n h) : ∃ g, fJ18_iterator__J19 li Γ h n = some (.inl (some n), g, 1, 5) ∧ kIl g n li 0 c D ∧ hsub h g ∧ xbd (n + 1) g := by
  have i0 : (0 : Int32) = Int32.ofNat 0 := rfl
  have n10 : ¬ (1 : Int32) = 0 := by decide
  have c20 := A.2.2.2.2.1
  have oA := yO_of _ _ _ A.1
  have sub : ∀ fs, hsub h (xupd h n (true, .inr (9, fs))) := fun fs => hsub_up (hb n (Nat.le_refl _))
  have e1 : xsel (some li) [(6, fun z => fJ19_isPositionIndex z (0 : Int32))] Γ h n = some (.inl 1, h, 0, 0) := by
    rw [e_sel oA]
    unfold fJ19_isPositionIndex
    rw [if_neg (by decide), x_b1 (k_llSize A), i0, if_neg (by rw [i_lt (by omega) (by omega)]; omega)]
    rfl
  have e2 : xsel (some li) [(6, fun z => fJ19_checkPositionIndex z (0 : Int32))] Γ h n = some (.inl (), h, 0, 0) := by
    rw [e_sel oA]
    unfold fJ19_checkPositionIndex
    rw [x_b1 e1, if_neg n10]
    rfl
  let q : Option Nat := if 0 < c then some (D 0) else none
  let g : xH := xupd h n (true, .inr (9, [.null, va_rf q, .int 0, .int (yi h 6 0 li), va_rf (some li)]))
  have gn : g n = some (true, .inr (9, [.null, va_rf q, .int 0, .int (yi h 6 0 li), va_rf (some li)])) := up_self
  have w1 : xput 9 4 (some n) (va_rf (some li)) Γ (xupd h n (true, .inr (9, [.null, .null, .int 0, .int 0, .null]))) (n + 1) = some (.inl (), xupd h n (true, .inr (9, [.null, .null, .int 0, .int 0, va_rf (some li)])), 0, 0) := o1_p (by simp)
  have r1 : xgR 9 4 (some n) Γ (xupd h n (true, .inr (9, [.null, .null, .int 0, .int 0, va_rf (some li)]))) (n + 1) = some (.inl (some li), xupd h n (true, .inr (9, [.null, .null, .int 0, .int 0, va_rf (some li)])), 0, 0) := o1_gR rfl
  have r2 := e_gI (Γ := Γ) (n := n + 1) (hO oA (sub [.null, .null, .int 0, .int 0, va_rf (some li)])) kn6_0
  rw [yi_c (sub _ _ (yO_at oA))] at r2
  have w2 : xput 9 3 (some n) (.int (yi h 6 0 li)) Γ (xupd h n (true, .inr (9, [.null, .null, .int 0, .int 0, va_rf (some li)]))) (n + 1) = some (.inl (), xupd h n (true, .inr (9, [.null, .null, .int 0, .int (yi h 6 0 li), va_rf (some li)])), 0, 0) := o1_p (by simp)
  have A2 := A.mono (sub [.null, .null, .int 0, .int (yi h 6 0 li), va_rf (some li)])
  have w3 : xput 9 1 (some n) (va_rf q) Γ (xupd h n (true, .inr (9, [.null, .null, .int 0, .int (yi h 6 0 li), va_rf (some li)]))) (n + 1) = some (.inl (), g, 0, 0) := o1_p (by simp)
  have w4 : xput 9 2 (some n) (.int 0) Γ g (n + 1) = some (.inl (), g, 0, 0) := o1_p (by simp)
  have e3 : fJ24_init_p38 n 0 q n Γ (xupd h n (true, .inr (9, [.null, .null, .int 0, .int (yi h 6 0 li), va_rf (some li)]))) (n + 1) = some (.inl (), g, 0, 0) := by
    unfold fJ24_init_p38
    rw [x_b1 w3, x_b1 w4]
    rfl
  have e4 : fJ24_init n (some li) 0 Γ (xupd h n (true, .inr (9, [.null, .null, .int 0, .int 0, .null]))) (n + 1) = some (.inl (), g, 0, 0) := by
    unfold fJ24_init
    rw [x_b1 w1, x_b1 r1, x_b1 r2, x_b1 w2, x_b1 (k_llSize A2)]
    by_cases c0 : c = 0
    · have qn : q = none := if_neg (by omega)
      rw [qn] at e3
      rw [if_pos (by rw [c0]; rfl), e3]
    · have qs : q = some (D 0) := if_pos (by omega)
      rw [qs] at e3
      have nd0 : xsel (some li) [(6, fun z => fJ19_node z (0 : Int32))] Γ (xupd h n (true, .inr (9, [.null, .null, .int 0, .int (yi h 6 0 li), va_rf (some li)]))) (n + 1) = some (.inl (some (D 0)), xupd h n (true, .inr (9, [.null, .null, .int 0, .int (yi h 6 0 li), va_rf (some li)])), 0, 0) := by
        rw [i0]
        exact k_llNode (i := 0) A2 (by omega)
      rw [if_neg (by rw [i0, i_eq (by omega) (by omega)]; omega), x_b1 nd0]
      exact e3
  have e5 : xsel (some li) [(6, fun z => fJ19_listIterator z (0 : Int32))] Γ h n = some (.inl (some n), g, 1, 5) := by
    rw [e_sel oA]
    unfold fJ19_listIterator
    rw [x_b1 e2, x_bc (show xnew 9 [.null, .null, .int 0, .int 0, .null] 5 Γ h n = some (.inl n, xupd h n (true, .inr (9, [.null, .null, .int 0, .int 0, .null])), 1, 5) from rfl), x_b1 e4]
    rfl
  have e6 : xsel (some li) [(6, fun z => fJ1_listIterator__J19 z)] Γ h n = some (.inl (some n), g, 1, 5) := by
    rw [e_sel oA]
    unfold fJ1_listIterator__J19
    rw [x_bc e5]
    rfl
  refine ⟨g, ?_, ⟨?_, ?_, ?_, ?_, ?_⟩, sub _, xbd_up1 hb⟩
  · unfold fJ18_iterator__J19
    rw [x_bc e6]
    rfl
  · unfold yW yhd; rw [gn]; cases q <;> rfl
  · unfold yr yv; rw [gn]; show yvR (va_rf q) = q; cases q <;> rfl
  · unfold yi yv; rw [gn]; rfl
  · rw [yi_c (sub _ _ (yO_at oA))]; unfold yi yv; rw [gn]; rfl
  · unfold yr yv; rw [gn]; rfl
end KIM
