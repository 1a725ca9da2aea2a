/-! part 547: the last item of a LinkedList is taken off -/
section KLR
variable {Γ : Nat → Option Nat} {h : xH} {n li c : Nat} {D T : Nat → Nat}
theorem k_ll42 {z : Int32} {r : Option Nat} (H : yW h 6 li) (hz : yi h 6 1 li = z) : fJ19_unlinkLast_p42 li r Γ h n = some (.inl r, ysi (ysi h 6 1 li (z - Int32.ofNat 1)) 6 0 li (yi h 6 0 li + Int32.ofNat 1), 0, 0) ∧ fJ19_unlinkFirst_p42 li r Γ h n = some (.inl r, ysi (ysi h 6 1 li (z - Int32.ofNat 1)) 6 0 li (yi h 6 0 li + Int32.ofNat 1), 0, 0) := by
  have i1 : (1 : Int32) = Int32.ofNat 1 := rfl
  have g1 := e_gI (Γ := Γ) (n := n) (yO_of _ _ _ H) kn6_1
  rw [hz] at g1
  have p1 : xput 6 1 (some li) (.int (z - Int32.ofNat 1)) Γ h n = some (.inl (), ysi h 6 1 li (z - Int32.ofNat 1), 0, 0) := e_put H kn6_1
  have H1 : yW (ysi h 6 1 li (z - Int32.ofNat 1)) 6 li := (yW_sv _ _ _ _ _ _ _).mpr H
  have g2 := e_gI (Γ := Γ) (n := n) (yO_of _ _ _ H1) kn6_0
  rw [yi_si H kn6_1, if_neg (by omega)] at g2
  have p2 : xput 6 0 (some li) (.int (yi h 6 0 li + Int32.ofNat 1)) Γ (ysi h 6 1 li (z - Int32.ofNat 1)) n = some (.inl (), ysi (ysi h 6 1 li (z - Int32.ofNat 1)) 6 0 li (yi h 6 0 li + Int32.ofNat 1), 0, 0) := e_put H1 kn6_0
  unfold fJ19_unlinkLast_p42 fJ19_unlinkFirst_p42
  rw [i1, x_b1 g1, x_b1 p1, x_b1 g2, x_b1 p2]
  exact ⟨rfl, rfl⟩
end KLR
