/-! part 557: an item of a LinkedList is taken out; the list is cleared -/
/-- a reference that is set changes no number -/
theorem k_yi_r {h : xH} {ci k a : Nat} {v : Option Nat} (H : yW h ci a) (hk : (ykn ci)[k]? = some 3) (cc kk b : Nat) : yi (ysr h ci k a v) cc kk b = yi h cc kk b := by
  by_cases e : cc = ci ∧ kk = k
  · obtain ⟨rfl, rfl⟩ := e
    unfold yi
    rw [yv_sv H (by rw [ykd_rf]; exact hk)]
    split
    · rename_i z
      rw [z.2.2]
      have h1 := yv_kind (yO_of _ _ _ H) (List.getElem?_eq_some_iff.mp hk).1
      rw [hk] at h1
      revert h1
      cases yv h cc kk a <;> intro h1 <;> cases v <;> first | rfl | (simp [ykd] at h1)
    · rfl
  · exact yi_sr H hk _ _ _ e
section KLU
variable {Γ : Nat → Option Nat} {h : xH} {n li c i : Nat} {D T : Nat → Nat}
theorem k_unl1 (H : kLl h li (c + 1) D T) (hi : i < c + 1) : ∃ h1, fJ19_unlink li (some (D i)) Γ h n = fJ19_unlink_p40 li (some (D i)) (some (T i)) (if i + 1 < c + 1 then some (D (i + 1)) else none) (if 0 < i then some (D (i - 1)) else none) Γ h1 n ∧ (∀ a, yhd h1 a = yhd h a) ∧ (∀ cc kk b, yi h1 cc kk b = yi h cc kk b) ∧ (∀ cc kk b, ¬ (cc = 25 ∧ b = D i) → yr h1 cc kk b = if cc = 6 ∧ kk = 2 ∧ b = li ∧ i = 0 then (if i + 1 < c + 1 then some (D (i + 1)) else none) else if cc = 25 ∧ kk = 1 ∧ 0 < i ∧ b = D (i - 1) then (if i + 1 < c + 1 then some (D (i + 1)) else none) else yr h cc kk b) ∧ ∀ a, a ≠ li → (∀ j, j < c + 1 → a ≠ D j) → h1 a = h a := by
  have I := k_llItem (Γ := Γ) (n := n) H hi
  have Nx := k_llNext (Γ := Γ) (n := n) H hi
  have Pv := k_llPrev (Γ := Γ) (n := n) H hi
  obtain ⟨H1, H2, H3, H4, H5, H6, H7⟩ := H
  generalize hx : (if i + 1 < c + 1 then some (D (i + 1)) else none) = x at *
  by_cases i0 : i = 0
  · rw [if_neg (by omega)] at Pv
    have p1 : xput 6 2 (some li) (va_rf x) Γ h n = some (.inl (), ysr h 6 2 li x, 0, 0) := e_put H1 (by rw [ykd_rf]; exact kn6_2)
    refine ⟨ysr h 6 2 li x, ?_, fun a => yhd_sv _ _ _ _ _ _, fun cc kk b => ?_, fun cc kk b hn => ?_, fun a e1 e2 => ysv_ne H1 e1⟩
    · unfold fJ19_unlink
      rw [x_b1 I, x_b1 Nx, x_b1 Pv, if_pos rfl, x_b1 p1, if_neg (by omega)]
    · exact k_yi_r H1 kn6_2 _ _ _
    · rw [yr_sr H1 kn6_2]
      by_cases e : cc = 6 ∧ kk = 2 ∧ b = li
      · rw [if_pos e, if_pos ⟨e.1, e.2.1, e.2.2, i0⟩]
      · rw [if_neg e, if_neg (fun z => e ⟨z.1, z.2.1, z.2.2.1⟩), if_neg (by omega)]
  · rw [if_pos (by omega)] at Pv
    have V1 := (H6 (i - 1) (by omega)).1
    have V2 := (H6 i hi).1
    have p1 : xput 25 1 (some (D (i - 1))) (va_rf x) Γ h n = some (.inl (), ysr h 25 1 (D (i - 1)) x, 0, 0) := e_put V1 (by rw [ykd_rf]; exact kn25_1)
    have V3 : yW (ysr h 25 1 (D (i - 1)) x) 25 (D i) := (yW_sv _ _ _ _ _ _ _).mpr V2
    have p2 : xput 25 2 (some (D i)) (va_rf none) Γ (ysr h 25 1 (D (i - 1)) x) n = some (.inl (), ysr (ysr h 25 1 (D (i - 1)) x) 25 2 (D i) none, 0, 0) := e_put V3 (by rw [ykd_rf]; exact kn25_2)
    refine ⟨ysr (ysr h 25 1 (D (i - 1)) x) 25 2 (D i) none, ?_, fun a => (yhd_sv _ _ _ _ _ _).trans (yhd_sv _ _ _ _ _ _), fun cc kk b => ?_, fun cc kk b hn => ?_, fun a e1 e2 => (ysv_ne V3 (e2 i hi)).trans (ysv_ne V1 (e2 (i - 1) (by omega)))⟩
    · unfold fJ19_unlink
      rw [x_b1 I, x_b1 Nx, x_b1 Pv, if_neg (fun z => nomatch z), x_b1 p1, x_b1 p2, if_pos (by omega)]
    · rw [k_yi_r V3 kn25_2, k_yi_r V1 kn25_1]
    · rw [yr_sr V3 kn25_2, if_neg (fun z => hn ⟨z.1, z.2.2⟩), yr_sr V1 kn25_1]
      by_cases e : cc = 25 ∧ kk = 1 ∧ b = D (i - 1)
      · rw [if_pos e, if_neg (by omega), if_pos ⟨e.1, e.2.1, by omega, e.2.2⟩]
      · rw [if_neg e, if_neg (fun z => i0 z.2.2.2), if_neg (fun z => e ⟨z.1, z.2.1, z.2.2.2⟩)]
end KLU
section KLU2
variable {Γ : Nat → Option Nat} {h : xH} {n li c i : Nat} {D T : Nat → Nat}
theorem k_unl2 {g : xH} {x p : Option Nat} (H : kLl h li (c + 1) D T) (hi : i < c + 1) (hd : ∀ a, yhd g a = yhd h a) (hx : x = if i + 1 < c + 1 then some (D (i + 1)) else none) : ∃ h2, fJ19_unlink_p40 li (some (D i)) (some (T i)) x p Γ g n = fJ19_unlink_p64 li (some (D i)) (some (T i)) Γ h2 n ∧ (∀ a, yhd h2 a = yhd h a) ∧ (∀ cc kk b, yi h2 cc kk b = yi g cc kk b) ∧ (∀ cc kk b, ¬ (cc = 25 ∧ b = D i) → yr h2 cc kk b = if cc = 6 ∧ kk = 3 ∧ b = li ∧ i = c then p else if cc = 25 ∧ kk = 2 ∧ i < c ∧ b = D (i + 1) then p else yr g cc kk b) ∧ ∀ a, a ≠ li → (∀ j, j < c + 1 → a ≠ D j) → h2 a = g a := by
  obtain ⟨H1, H2, H3, H4, H5, H6, H7⟩ := H
  have W : ∀ {cc a}, yW h cc a → yW g cc a := fun z => by unfold yW; rw [hd]; exact z
  by_cases ic : i = c
  · have xn : x = none := by rw [hx, if_neg (by omega)]
    have L1 := W H1
    have p1 : xput 6 3 (some li) (va_rf p) Γ g n = some (.inl (), ysr g 6 3 li p, 0, 0) := e_put L1 (by rw [ykd_rf]; exact kn6_3)
    refine ⟨ysr g 6 3 li p, ?_, fun a => (yhd_sv _ _ _ _ _ _).trans (hd a), fun cc kk b => k_yi_r L1 kn6_3 _ _ _, fun cc kk b hn => ?_, fun a e1 e2 => ysv_ne L1 e1⟩
    · unfold fJ19_unlink_p40
      rw [if_pos xn, x_b1 p1]
    · rw [yr_sr L1 kn6_3]
      by_cases e : cc = 6 ∧ kk = 3 ∧ b = li
      · rw [if_pos e, if_pos ⟨e.1, e.2.1, e.2.2, ic⟩]
      · rw [if_neg e, if_neg (fun z => e ⟨z.1, z.2.1, z.2.2.1⟩), if_neg (by omega)]
  · have xs : x = some (D (i + 1)) := by rw [hx, if_pos (by omega)]
    have V1 := W (H6 (i + 1) (by omega)).1
    have V2 := W (H6 i hi).1
    have p1 : xput 25 2 (some (D (i + 1))) (va_rf p) Γ g n = some (.inl (), ysr g 25 2 (D (i + 1)) p, 0, 0) := e_put V1 (by rw [ykd_rf]; exact kn25_2)
    have V3 : yW (ysr g 25 2 (D (i + 1)) p) 25 (D i) := (yW_sv _ _ _ _ _ _ _).mpr V2
    have p2 : xput 25 1 (some (D i)) (va_rf none) Γ (ysr g 25 2 (D (i + 1)) p) n = some (.inl (), ysr (ysr g 25 2 (D (i + 1)) p) 25 1 (D i) none, 0, 0) := e_put V3 (by rw [ykd_rf]; exact kn25_1)
    refine ⟨ysr (ysr g 25 2 (D (i + 1)) p) 25 1 (D i) none, ?_, fun a => (yhd_sv _ _ _ _ _ _).trans ((yhd_sv _ _ _ _ _ _).trans (hd a)), fun cc kk b => by rw [k_yi_r V3 kn25_1, k_yi_r V1 kn25_2], fun cc kk b hn => ?_, fun a e1 e2 => (ysv_ne V3 (e2 i hi)).trans (ysv_ne V1 (e2 (i + 1) (by omega)))⟩
    · unfold fJ19_unlink_p40
      rw [xs, if_neg (fun z => nomatch z), x_b1 p1, x_b1 p2]
    · rw [yr_sr V3 kn25_1, if_neg (fun z => hn ⟨z.1, z.2.2⟩), yr_sr V1 kn25_2]
      by_cases e : cc = 25 ∧ kk = 2 ∧ b = D (i + 1)
      · rw [if_pos e, if_neg (by omega), if_pos ⟨e.1, e.2.1, by omega, e.2.2⟩]
      · rw [if_neg e, if_neg (fun z => ic z.2.2.2), if_neg (fun z => e ⟨z.1, z.2.1, z.2.2.2⟩)]
theorem k_llRem (H : kLl h li (c + 1) D T) (hi : i < c + 1) : ∃ g, xsel (some li) [(6, fun z => fJ19_remove z (Int32.ofNat i))] Γ h n = some (.inl (some (T i)), g, 0, 0) ∧ kLl g li c (fun j => if j < i then D j else D (j + 1)) (fun j => if j < i then T j else T (j + 1)) ∧ (∀ a, yhd g a = yhd h a) ∧ ∀ a, a ≠ li → (∀ j, j < c + 1 → a ≠ D j) → g a = h a := by
  have i0 : (0 : Int32) = Int32.ofNat 0 := rfl
  have i1 : (1 : Int32) = Int32.ofNat 1 := rfl
  have n10 : ¬ (1 : Int32) = 0 := by decide
  have c20 := H.2.2.2.2.1
  have o := yO_of _ _ _ H.1
  have e1 : xsel (some li) [(6, fun z => fJ19_isElementIndex z (Int32.ofNat i))] Γ h n = some (.inl 1, h, 0, 0) := by
    rw [e_sel o]
    unfold fJ19_isElementIndex
    rw [i0, if_neg (by rw [i_lt (by omega) (by omega)]; omega), x_b1 (k_llSize H), if_neg (by rw [i_le (by omega) (by omega)]; omega)]
    rfl
  have e2 : xsel (some li) [(6, fun z => fJ19_checkElementIndex z (Int32.ofNat i))] Γ h n = some (.inl (), h, 0, 0) := by
    rw [e_sel o]
    unfold fJ19_checkElementIndex
    rw [x_b1 e1, if_neg n10]
    rfl
  obtain ⟨h1, u1, u2, u3, u4, u5⟩ := k_unl1 (Γ := Γ) (n := n) H hi
  obtain ⟨h2, v1, v2, v3, v4, v5⟩ := k_unl2 (Γ := Γ) (n := n) (g := h1) (p := if 0 < i then some (D (i - 1)) else none) H hi u2 rfl
  have nd := k_llNode (Γ := Γ) (n := n) H hi
  obtain ⟨H1, H2, H3, H4, H5, H6, H7⟩ := H
  have W : ∀ {cc a}, yW h cc a → yW h2 cc a := fun z => by unfold yW; rw [v2]; exact z
  have V := W (H6 i hi).1
  have L1 := W H1
  let a1 : xH := ysr h2 25 0 (D i) none
  have p1 : xput 25 0 (some (D i)) (va_rf none) Γ h2 n = some (.inl (), a1, 0, 0) := e_put V (by rw [ykd_rf]; exact kn25_0)
  have L2 : yW a1 6 li := (yW_sv _ _ _ _ _ _ _).mpr L1
  have g1 := e_gI (Γ := Γ) (n := n) (yO_of _ _ _ L2) kn6_1
  rw [show yi a1 6 1 li = Int32.ofNat (c + 1) by rw [k_yi_r V kn25_0, v3, u3]; exact H2] at g1
  let a2 : xH := ysi a1 6 1 li (Int32.ofNat c)
  have p2 : xput 6 1 (some li) (.int (Int32.ofNat c)) Γ a1 n = some (.inl (), a2, 0, 0) := e_put L2 kn6_1
  have L3 : yW a2 6 li := (yW_sv _ _ _ _ _ _ _).mpr L2
  have g2 := e_gI (Γ := Γ) (n := n) (yO_of _ _ _ L3) kn6_0
  let a3 : xH := ysi a2 6 0 li (yi a2 6 0 li + Int32.ofNat 1)
  have p3 : xput 6 0 (some li) (.int (yi a2 6 0 li + Int32.ofNat 1)) Γ a2 n = some (.inl (), a3, 0, 0) := e_put L3 kn6_0
  have rr : ∀ cc kk b, ¬ (cc = 25 ∧ b = D i) → ¬ (cc = 6 ∧ kk < 2) → yr a3 cc kk b = if cc = 6 ∧ kk = 3 ∧ b = li ∧ i = c then (if 0 < i then some (D (i - 1)) else none) else if cc = 25 ∧ kk = 2 ∧ i < c ∧ b = D (i + 1) then (if 0 < i then some (D (i - 1)) else none) else if cc = 6 ∧ kk = 2 ∧ b = li ∧ i = 0 then (if i + 1 < c + 1 then some (D (i + 1)) else none) else if cc = 25 ∧ kk = 1 ∧ 0 < i ∧ b = D (i - 1) then (if i + 1 < c + 1 then some (D (i + 1)) else none) else yr h cc kk b := by
    intro cc kk b hn hm
    rw [yr_si L3 kn6_0 _ _ _ (by omega), yr_si L2 kn6_1 _ _ _ (by omega), yr_sr V kn25_0, if_neg (fun z => hn ⟨z.1, z.2.2⟩), v4 _ _ _ hn, u4 _ _ _ hn]
  have hd : ∀ a, yhd a3 a = yhd h a := fun a => (yhd_sv _ _ _ _ _ _).trans ((yhd_sv _ _ _ _ _ _).trans ((yhd_sv _ _ _ _ _ _).trans (v2 a)))
  have neq : ∀ j k, j < c + 1 → k < c + 1 → j ≠ k → D j ≠ D k := fun j k hj hk ne z => ne (H7 j k hj hk z)
  refine ⟨a3, ?_, ⟨by unfold yW; rw [hd]; exact H1, ?_, ?_, ?_, by omega, fun j hj => ?_, fun j k hj hk e => ?_⟩, hd, fun a e1 e2 => (ysv_ne L3 e1).trans ((ysv_ne L2 e1).trans ((ysv_ne V (e2 i hi)).trans ((v5 a e1 e2).trans (u5 a e1 e2))))⟩
  · have eu : xsel (some li) [(6, fun z => fJ19_unlink z (some (D i)))] Γ h n = some (.inl (some (T i)), a3, 0, 0) := by
      rw [e_sel o, u1, v1]
      unfold fJ19_unlink_p64
      rw [x_b1 p1, x_b1 g1, i1, show Int32.ofNat (c + 1) - Int32.ofNat 1 = Int32.ofNat c from i_sub (by omega), x_b1 p2, x_b1 g2, x_b1 p3]
      rfl
    rw [e_sel o]
    unfold fJ19_remove
    rw [x_b1 e2, x_b1 nd, x_b1 eu]
    rfl
  · rw [yi_si L3 kn6_0, if_neg (by omega), yi_si L2 kn6_1, if_pos ⟨rfl, rfl, rfl⟩]
  · rw [rr _ _ _ (by omega) (by omega), if_neg (by omega), if_neg (by omega)]
    by_cases z : i = 0
    · rw [if_pos ⟨rfl, rfl, rfl, z⟩]
      by_cases y : 0 < c
      · rw [if_pos (by omega), if_pos y]
        dsimp only
        rw [if_neg (by omega), z]
      · rw [if_neg (by omega), if_neg y]
    · rw [if_neg (fun q => z q.2.2.2), if_neg (by omega), H3, if_pos (by omega), if_pos (by omega)]
      dsimp only
      rw [if_pos (by omega)]
  · rw [rr _ _ _ (by omega) (by omega)]
    by_cases z : i = c
    · rw [if_pos ⟨rfl, rfl, rfl, z⟩]
      by_cases y : 0 < c
      · rw [if_pos (by omega), if_pos y]
        dsimp only
        rw [if_pos (by omega), z]
      · rw [if_neg (by omega), if_neg y]
    · rw [if_neg (fun q => z q.2.2.2), if_neg (by omega), if_neg (by omega), if_neg (by omega), H4, if_pos (by omega), if_pos (by omega)]
      dsimp only
      rw [if_neg (by omega), show c + 1 - 1 = c - 1 + 1 by omega]
  · by_cases ji : j < i
    · simp only [if_pos ji]
      obtain ⟨k1, k2, k3, k4⟩ := H6 j (by omega)
      have nj := neq j i (by omega) hi (by omega)
      have hn : ∀ kk : Nat, ¬ (25 = 25 ∧ D j = D i) := fun _ z => nj z.2
      refine ⟨by unfold yW; rw [hd]; exact k1, ?_, ?_, ?_⟩
      · rw [rr _ _ _ (hn 0) (by omega), if_neg (by omega), if_neg (by omega), if_neg (by omega), if_neg (by omega)]; exact k2
      · rw [rr _ _ _ (hn 0) (by omega), if_neg (by omega), if_neg (by omega), if_neg (by omega)]
        by_cases q : j + 1 = i
        · rw [if_pos ⟨rfl, rfl, by omega, by rw [← q]; rfl⟩]
          by_cases y : i < c
          · rw [if_pos (by omega), if_pos (by omega), if_neg (by omega), ← q]
          · rw [if_neg (by omega), if_neg (by omega)]
        · rw [if_neg (fun z => neq j (i - 1) (by omega) (by omega) (by omega) z.2.2.2), k3, if_pos (by omega), if_pos (by omega), if_pos (by omega)]
      · rw [rr _ _ _ (hn 0) (by omega), if_neg (by omega), if_neg (fun z => neq j (i + 1) (by omega) (by omega) (by omega) z.2.2.2), if_neg (by omega), if_neg (by omega), k4]
        by_cases q : 0 < j
        · rw [if_pos q, if_pos q, if_pos (by omega)]
        · rw [if_neg q, if_neg q]
    · simp only [if_neg ji]
      obtain ⟨k1, k2, k3, k4⟩ := H6 (j + 1) (by omega)
      have nj := neq (j + 1) i (by omega) hi (by omega)
      have hn : ∀ kk : Nat, ¬ (25 = 25 ∧ D (j + 1) = D i) := fun _ z => nj z.2
      refine ⟨by unfold yW; rw [hd]; exact k1, ?_, ?_, ?_⟩
      · rw [rr _ _ _ (hn 0) (by omega), if_neg (by omega), if_neg (by omega), if_neg (by omega), if_neg (by omega)]; exact k2
      · rw [rr _ _ _ (hn 0) (by omega), if_neg (by omega), if_neg (by omega), if_neg (by omega), if_neg (fun z => neq (j + 1) (i - 1) (by omega) (by omega) (by omega) z.2.2.2), k3]
        by_cases q : j + 1 < c
        · rw [if_pos (by omega), if_pos q, if_neg (by omega)]
        · rw [if_neg (by omega), if_neg q]
      · rw [rr _ _ _ (hn 0) (by omega), if_neg (by omega)]
        by_cases q : j = i
        · rw [if_pos ⟨rfl, rfl, by omega, by rw [q]⟩, q]
          by_cases y : 0 < i
          · rw [if_pos y, if_pos y, if_pos (by omega)]
          · rw [if_neg y, if_neg y]
        · rw [if_neg (fun z => neq (j + 1) (i + 1) (by omega) (by omega) (by omega) z.2.2.2), if_neg (by omega), if_neg (by omega), k4, if_pos (by omega), if_pos (by omega), if_neg (by omega), show j + 1 - 1 = j - 1 + 1 by omega]
  · dsimp only at e
    by_cases j1 : j < i
    · by_cases k1 : k < i
      · rw [if_pos j1, if_pos k1] at e
        exact H7 j k (by omega) (by omega) e
      · rw [if_pos j1, if_neg k1] at e
        have := H7 j (k + 1) (by omega) (by omega) e
        omega
    · by_cases k1 : k < i
      · rw [if_neg j1, if_pos k1] at e
        have := H7 (j + 1) k (by omega) (by omega) e
        omega
      · rw [if_neg j1, if_neg k1] at e
        have := H7 (j + 1) (k + 1) (by omega) (by omega) e
        omega
/-- the nodes from j on are emptied, then the list -/
theorem k_clear5 (H : kLl h li c D T) : ∀ (k j fu : Nat) (g : xH), j + k = c → k < fu → (∀ a, yhd g a = yhd h a) → (∀ a, a ≠ li → (∀ i, i < c → a ≠ D i) → g a = h a) → (∀ i, j ≤ i → i < c → g (D i) = h (D i)) → ∃ g', fJ19_clear_p5 fu li (if j < c then some (D j) else none) Γ g n = some (.inl (), g', 0, 0) ∧ kLl g' li 0 D T ∧ (∀ a, yhd g' a = yhd h a) ∧ ∀ a, a ≠ li → (∀ i, i < c → a ≠ D i) → g' a = h a := by
  have i0 : (0 : Int32) = Int32.ofNat 0 := rfl
  obtain ⟨H1, H2, H3, H4, H5, H6, H7⟩ := H
  intro k
  induction k with
  | zero =>
    intro j fu g hk hf hd ho hr
    obtain ⟨fu, rfl⟩ : ∃ g, fu = g + 1 := ⟨fu - 1, by omega⟩
    have L0 : yW g 6 li := by unfold yW; rw [hd]; exact H1
    let a1 : xH := ysr g 6 3 li none
    have p1 : xput 6 3 (some li) (va_rf none) Γ g n = some (.inl (), a1, 0, 0) := e_put L0 (by rw [ykd_rf]; exact kn6_3)
    have L1 : yW a1 6 li := (yW_sv _ _ _ _ _ _ _).mpr L0
    let a2 : xH := ysr a1 6 2 li none
    have p2 : xput 6 2 (some li) (va_rf none) Γ a1 n = some (.inl (), a2, 0, 0) := e_put L1 (by rw [ykd_rf]; exact kn6_2)
    have L2 : yW a2 6 li := (yW_sv _ _ _ _ _ _ _).mpr L1
    let a3 : xH := ysi a2 6 1 li 0
    have p3 : xput 6 1 (some li) (.int 0) Γ a2 n = some (.inl (), a3, 0, 0) := e_put L2 kn6_1
    have L3 : yW a3 6 li := (yW_sv _ _ _ _ _ _ _).mpr L2
    have g4 := e_gI (Γ := Γ) (n := n) (yO_of _ _ _ L3) kn6_0
    let a4 : xH := ysi a3 6 0 li (yi a3 6 0 li + 1)
    have p4 : xput 6 0 (some li) (.int (yi a3 6 0 li + 1)) Γ a3 n = some (.inl (), a4, 0, 0) := e_put L3 kn6_0
    have L4 : yW a4 6 li := (yW_sv _ _ _ _ _ _ _).mpr L3
    refine ⟨a4, ?_, ⟨L4, ?_, ?_, ?_, by omega, fun i hi => absurd hi (by omega), fun i j hi => absurd hi (by omega)⟩, fun a => (yhd_sv _ _ _ _ _ _).trans ((yhd_sv _ _ _ _ _ _).trans ((yhd_sv _ _ _ _ _ _).trans ((yhd_sv _ _ _ _ _ _).trans (hd a)))), fun a e1 e2 => (ysv_ne L3 e1).trans ((ysv_ne L2 e1).trans ((ysv_ne L1 e1).trans ((ysv_ne L0 e1).trans (ho a e1 e2))))⟩
    · rw [if_neg (by omega), fJ19_clear_p5, if_pos rfl, x_b1 p1, x_b1 p2, x_b1 p3, x_b1 g4, x_b1 p4]
      rfl
    · rw [yi_si L3 kn6_0, if_neg (by omega), yi_si L2 kn6_1, if_pos ⟨rfl, rfl, rfl⟩]; rfl
    · rw [yr_si L3 kn6_0 _ _ _ (by omega), yr_si L2 kn6_1 _ _ _ (by omega), yr_sr L1 kn6_2, if_pos ⟨rfl, rfl, rfl⟩, if_neg (by omega)]
    · rw [yr_si L3 kn6_0 _ _ _ (by omega), yr_si L2 kn6_1 _ _ _ (by omega), yr_sr L1 kn6_2, if_neg (by omega), yr_sr L0 kn6_3, if_pos ⟨rfl, rfl, rfl⟩, if_neg (by omega)]
  | succ k ih =>
    intro j fu g hk hf hd ho hr
    obtain ⟨fu, rfl⟩ : ∃ g, fu = g + 1 := ⟨fu - 1, by omega⟩
    obtain ⟨k1, k2, k3, k4⟩ := H6 j (by omega)
    have V0 : yW g 25 (D j) := by unfold yW; rw [hd]; exact k1
    have g1 := e_gR (Γ := Γ) (n := n) (yO_of _ _ _ V0) kn25_1
    rw [yr_c (hr j (Nat.le_refl _) (by omega)), k3] at g1
    let a1 : xH := ysr g 25 0 (D j) none
    have p1 : xput 25 0 (some (D j)) (va_rf none) Γ g n = some (.inl (), a1, 0, 0) := e_put V0 (by rw [ykd_rf]; exact kn25_0)
    have V1 : yW a1 25 (D j) := (yW_sv _ _ _ _ _ _ _).mpr V0
    let a2 : xH := ysr a1 25 1 (D j) none
    have p2 : xput 25 1 (some (D j)) (va_rf none) Γ a1 n = some (.inl (), a2, 0, 0) := e_put V1 (by rw [ykd_rf]; exact kn25_1)
    have V2 : yW a2 25 (D j) := (yW_sv _ _ _ _ _ _ _).mpr V1
    let a3 : xH := ysr a2 25 2 (D j) none
    have p3 : xput 25 2 (some (D j)) (va_rf none) Γ a2 n = some (.inl (), a3, 0, 0) := e_put V2 (by rw [ykd_rf]; exact kn25_2)
    have q3 : ∀ a, a ≠ D j → a3 a = g a := fun a e => (ysv_ne V2 e).trans ((ysv_ne V1 e).trans (ysv_ne V0 e))
    obtain ⟨g', r1, r2⟩ := ih (j + 1) fu a3 (by omega) (by omega) (fun a => (yhd_sv _ _ _ _ _ _).trans ((yhd_sv _ _ _ _ _ _).trans ((yhd_sv _ _ _ _ _ _).trans (hd a)))) (fun a e1 e2 => (q3 a (e2 j (by omega))).trans (ho a e1 e2)) (fun i hi hc => (q3 _ (fun z => absurd (H7 i j hc (by omega) z) (by omega))).trans (hr i (by omega) hc))
    refine ⟨g', ?_, r2⟩
    rw [if_pos (by omega), fJ19_clear_p5, if_neg (fun z => nomatch z), x_b1 g1, x_b1 p1, x_b1 p2, x_b1 p3]
    exact r1
theorem k_llClear (H : kLl h li c D T) : ∃ g, xsel (some li) [(6, fun z => fJ19_clear z)] Γ h n = some (.inl (), g, 0, 0) ∧ kLl g li 0 D T ∧ (∀ a, yhd g a = yhd h a) ∧ ∀ a, a ≠ li → (∀ i, i < c → a ≠ D i) → g a = h a := by
  obtain ⟨g', r1, r2⟩ := k_clear5 (Γ := Γ) (n := n) H c 0 xFU h (by omega) (by have := H.2.2.2.2.1; unfold xFU; omega) (fun _ => rfl) (fun _ _ _ => rfl) (fun _ _ _ => rfl)
  have o := yO_of _ _ _ H.1
  have g2 := e_gR (Γ := Γ) (n := n) o kn6_2
  rw [H.2.2.1] at g2
  refine ⟨g', ?_, r2⟩
  rw [e_sel o]
  unfold fJ19_clear
  rw [x_b1 g2]
  exact r1
end KLU2
