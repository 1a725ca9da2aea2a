/-! part 548: the last item of a LinkedList is taken off -/
section KLR2
variable {Γ : Nat → Option Nat} {h : xH} {n li c : Nat} {D T : Nat → Nat}
theorem k_llRemLast (H : kLl h li (c + 1) D T) : ∃ g, xsel (some li) [(6, fun z => fJ19_removeLast z)] Γ h n = some (.inl (some (T c)), g, 0, 0) ∧ kLl g li c D T ∧ (∀ a, yhd g a = yhd h a) ∧ ∀ a, a ≠ li → (∀ i, i < c + 1 → a ≠ D i) → g a = h a := by
  have I := k_llItem (Γ := Γ) (n := n) H (show c < c + 1 by omega)
  have Pv := k_llPrev (Γ := Γ) (n := n) H (show c < c + 1 by omega)
  obtain ⟨H1, H2, H3, H4, H5, H6, H7⟩ := H
  have o := yO_of _ _ _ H1
  have g3 := e_gR (Γ := Γ) (n := n) o kn6_3
  rw [H4, if_pos (by omega), Nat.add_sub_cancel] at g3
  have V0 := (H6 c (by omega)).1
  let a1 : xH := ysr h 25 0 (D c) none
  have V1 : yW a1 25 (D c) := (yW_sv _ _ _ _ _ _ _).mpr V0
  have p1 : xput 25 0 (some (D c)) (va_rf none) Γ h n = some (.inl (), a1, 0, 0) := e_put V0 (by rw [ykd_rf]; exact kn25_0)
  let a2 : xH := ysr a1 25 2 (D c) none
  have p2 : xput 25 2 (some (D c)) (va_rf none) Γ a1 n = some (.inl (), a2, 0, 0) := e_put V1 (by rw [ykd_rf]; exact kn25_2)
  have L2 : yW a2 6 li := (yW_sv _ _ _ _ _ _ _).mpr ((yW_sv _ _ _ _ _ _ _).mpr H1)
  let v6 : Option Nat := if 0 < c then some (D (c - 1)) else none
  let a3 : xH := ysr a2 6 3 li v6
  have L3 : yW a3 6 li := (yW_sv _ _ _ _ _ _ _).mpr L2
  have p3 : xput 6 3 (some li) (va_rf v6) Γ a2 n = some (.inl (), a3, 0, 0) := e_put L2 (by rw [ykd_rf]; exact kn6_3)
  have r3 : ∀ cc kk b, yr a3 cc kk b = if cc = 6 ∧ kk = 3 ∧ b = li then v6 else if cc = 25 ∧ kk = 2 ∧ b = D c then none else if cc = 25 ∧ kk = 0 ∧ b = D c then none else yr h cc kk b := fun cc kk b => by
    rw [yr_sr L2 kn6_3, yr_sr V1 kn25_2, yr_sr V0 kn25_0]
  have i3 : ∀ kk, kk < 2 → yi a3 6 kk li = yi h 6 kk li := fun kk hk => by
    rw [yi_sr L2 kn6_3 _ _ _ (by omega), yi_sr V1 kn25_2 _ _ _ (by omega), yi_sr V0 kn25_0 _ _ _ (by omega)]
  have q3 : ∀ a, a ≠ li → a ≠ D c → a3 a = h a := fun a e1 e2 => (ysv_ne L2 e1).trans ((ysv_ne V1 e2).trans (ysv_ne V0 e2))
  have d3 : ∀ a, yhd a3 a = yhd h a := fun a => (yhd_sv _ _ _ _ _ _).trans ((yhd_sv _ _ _ _ _ _).trans (yhd_sv _ _ _ _ _ _))
  by_cases c0 : c = 0
  · have vn : v6 = none := if_neg (by omega)
    let a4 : xH := ysr a3 6 2 li none
    have L4 : yW a4 6 li := (yW_sv _ _ _ _ _ _ _).mpr L3
    have p4 : xput 6 2 (some li) (va_rf none) Γ a3 n = some (.inl (), a4, 0, 0) := e_put L3 (by rw [ykd_rf]; exact kn6_2)
    have z4 : yi a4 6 1 li = Int32.ofNat (c + 1) := by rw [yi_sr L3 kn6_2 _ _ _ (by omega), i3 1 (by omega), H2]
    have e42 := (k_ll42 (Γ := Γ) (n := n) (r := some (T c)) L4 z4).1
    have L5 : yW (ysi a4 6 1 li (Int32.ofNat (c + 1) - Int32.ofNat 1)) 6 li := (yW_sv _ _ _ _ _ _ _).mpr L4
    refine ⟨ysi (ysi a4 6 1 li (Int32.ofNat (c + 1) - Int32.ofNat 1)) 6 0 li (yi a4 6 0 li + Int32.ofNat 1), ?_, ⟨(yW_sv _ _ _ _ _ _ _).mpr L5, ?_, ?_, ?_, by omega, fun i hi => absurd hi (by omega), fun i j hi => absurd hi (by omega)⟩, fun a => (yhd_sv _ _ _ _ _ _).trans ((yhd_sv _ _ _ _ _ _).trans ((yhd_sv _ _ _ _ _ _).trans (d3 a))), fun a e1 e2 => (ysv_ne L5 e1).trans ((ysv_ne L4 e1).trans ((ysv_ne L3 e1).trans (q3 a e1 (e2 c (by omega)))))⟩
    · have eu : xsel (some li) [(6, fun z => fJ19_unlinkLast z (some (D c)))] Γ h n = some (.inl (some (T c)), ysi (ysi a4 6 1 li (Int32.ofNat (c + 1) - Int32.ofNat 1)) 6 0 li (yi a4 6 0 li + Int32.ofNat 1), 0, 0) := by
        rw [e_sel o]
        unfold fJ19_unlinkLast
        rw [x_b1 I, x_b1 Pv, x_b1 p1, x_b1 p2, x_b1 p3, if_pos vn, x_b1 p4, e42]
      rw [e_sel o]
      unfold fJ19_removeLast
      rw [x_b1 g3, if_neg (fun z => nomatch z), x_b1 eu]
      rfl
    · rw [yi_si L5 kn6_0, if_neg (by omega), yi_si L4 kn6_1, if_pos ⟨rfl, rfl, rfl⟩, i_sub (by omega)]; rfl
    · rw [yr_si L5 kn6_0 _ _ _ (by omega), yr_si L4 kn6_1 _ _ _ (by omega), yr_sr L3 kn6_2, if_pos ⟨rfl, rfl, rfl⟩, if_neg (by omega)]
    · rw [yr_si L5 kn6_0 _ _ _ (by omega), yr_si L4 kn6_1 _ _ _ (by omega), yr_sr L3 kn6_2, if_neg (by omega), r3, if_pos ⟨rfl, rfl, rfl⟩]
  · have vs : v6 = some (D (c - 1)) := if_pos (by omega)
    have V3 : yW a3 25 (D (c - 1)) := by unfold yW; rw [d3]; exact (H6 (c - 1) (by omega)).1
    let a4 : xH := ysr a3 25 1 (D (c - 1)) none
    have L4 : yW a4 6 li := (yW_sv _ _ _ _ _ _ _).mpr L3
    have p4 : xput 25 1 (some (D (c - 1))) (va_rf none) Γ a3 n = some (.inl (), a4, 0, 0) := e_put V3 (by rw [ykd_rf]; exact kn25_1)
    have z4 : yi a4 6 1 li = Int32.ofNat (c + 1) := by rw [yi_sr V3 kn25_1 _ _ _ (by omega), i3 1 (by omega), H2]
    have e42 := (k_ll42 (Γ := Γ) (n := n) (r := some (T c)) L4 z4).1
    have L5 : yW (ysi a4 6 1 li (Int32.ofNat (c + 1) - Int32.ofNat 1)) 6 li := (yW_sv _ _ _ _ _ _ _).mpr L4
    have hd : ∀ a, yhd (ysi (ysi a4 6 1 li (Int32.ofNat (c + 1) - Int32.ofNat 1)) 6 0 li (yi a4 6 0 li + Int32.ofNat 1)) a = yhd h a := fun a => (yhd_sv _ _ _ _ _ _).trans ((yhd_sv _ _ _ _ _ _).trans ((yhd_sv _ _ _ _ _ _).trans (d3 a)))
    have rr : ∀ cc kk b, ¬ (cc = 6 ∧ kk < 2) → yr (ysi (ysi a4 6 1 li (Int32.ofNat (c + 1) - Int32.ofNat 1)) 6 0 li (yi a4 6 0 li + Int32.ofNat 1)) cc kk b = if cc = 25 ∧ kk = 1 ∧ b = D (c - 1) then none else yr a3 cc kk b := fun cc kk b hk => by
      rw [yr_si L5 kn6_0 _ _ _ (by omega), yr_si L4 kn6_1 _ _ _ (by omega), yr_sr V3 kn25_1]
    refine ⟨ysi (ysi a4 6 1 li (Int32.ofNat (c + 1) - Int32.ofNat 1)) 6 0 li (yi a4 6 0 li + Int32.ofNat 1), ?_, ⟨(yW_sv _ _ _ _ _ _ _).mpr L5, ?_, ?_, ?_, by omega, fun i hi => ?_, fun i j hi hj => H7 i j (by omega) (by omega)⟩, hd, fun a e1 e2 => (ysv_ne L5 e1).trans ((ysv_ne L4 e1).trans ((ysv_ne V3 (e2 (c - 1) (by omega))).trans (q3 a e1 (e2 c (by omega)))))⟩
    · have eu : xsel (some li) [(6, fun z => fJ19_unlinkLast z (some (D c)))] Γ h n = some (.inl (some (T c)), ysi (ysi a4 6 1 li (Int32.ofNat (c + 1) - Int32.ofNat 1)) 6 0 li (yi a4 6 0 li + Int32.ofNat 1), 0, 0) := by
        rw [e_sel o]
        unfold fJ19_unlinkLast
        rw [x_b1 I, x_b1 Pv, x_b1 p1, x_b1 p2, x_b1 p3, if_neg (show ¬ v6 = none by rw [vs]; exact fun z => nomatch z), show (if 0 < c then some (D (c - 1)) else none) = some (D (c - 1)) from vs, x_b1 p4, e42]
      rw [e_sel o]
      unfold fJ19_removeLast
      rw [x_b1 g3, if_neg (fun z => nomatch z), x_b1 eu]
      rfl
    · rw [yi_si L5 kn6_0, if_neg (by omega), yi_si L4 kn6_1, if_pos ⟨rfl, rfl, rfl⟩, i_sub (by omega)]; rfl
    · rw [rr _ _ _ (by omega), if_neg (by omega), r3, if_neg (by omega), if_neg (by omega), if_neg (by omega), H3, if_pos (by omega), if_pos (by omega)]
    · rw [rr _ _ _ (by omega), if_neg (by omega), r3, if_pos ⟨rfl, rfl, rfl⟩]
    · obtain ⟨k1, k2, k3, k4⟩ := H6 i (by omega)
      have ne : ¬ D i = D c := fun z => absurd (H7 _ _ (by omega) (by omega) z) (by omega)
      refine ⟨by unfold yW; rw [hd]; exact k1, ?_, ?_, ?_⟩
      · rw [rr _ _ _ (by omega), if_neg (by omega), r3, if_neg (by omega), if_neg (by omega), if_neg (fun z => ne z.2.2)]; exact k2
      · rw [rr _ _ _ (by omega)]
        by_cases il : i = c - 1
        · rw [if_pos ⟨rfl, rfl, by rw [il]⟩, if_neg (by omega)]
        · rw [if_neg (fun z => il (H7 _ _ (by omega) (by omega) z.2.2)), r3, if_neg (by omega), if_neg (by omega), if_neg (by omega), k3, if_pos (by omega), if_pos (by omega)]
      · rw [rr _ _ _ (by omega), if_neg (by omega), r3, if_neg (by omega), if_neg (fun z => ne z.2.2), if_neg (by omega)]; exact k4
end KLR2
