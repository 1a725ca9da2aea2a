/-! part 544: an item is added to a LinkedList -/
section KLA
variable {Γ : Nat → Option Nat} {h : xH} {n li c v : Nat} {D T : Nat → Nat}
theorem ysv_ne {w : Value} {c j a b : Nat} (H : yW h c a) (hb : b ≠ a) : ysv h c j a w b = h b := by
  obtain ⟨fs, e, hk⟩ := yhd_o H
  unfold ysv
  rw [e]
  simp only
  split
  · exact up_ne hb
  · rfl
theorem k_ll38 {z : Int32} (H : yW h 6 li) (hz : yi h 6 1 li = z) : fJ19_linkLast_p38 li Γ h n = some (.inl (), ysi (ysi h 6 1 li (z + Int32.ofNat 1)) 6 0 li (yi h 6 0 li + Int32.ofNat 1), 0, 0) := by
  have i1 : (1 : Int32) = Int32.ofNat 1 := rfl
  have g1 := e_gI (Γ := Γ) (n := n) (yO_of _ _ _ H) kn6_1
  rw [hz] at g1
  have p1 : xput 6 1 (some li) (.int (z + Int32.ofNat 1)) Γ h n = some (.inl (), ysi h 6 1 li (z + Int32.ofNat 1), 0, 0) := e_put H kn6_1
  have H1 : yW (ysi h 6 1 li (z + Int32.ofNat 1)) 6 li := (yW_sv _ _ _ _ _ _ _).mpr H
  have g2 := e_gI (Γ := Γ) (n := n) (yO_of _ _ _ H1) kn6_0
  rw [yi_si H kn6_1, if_neg (by omega)] at g2
  have p2 : xput 6 0 (some li) (.int (yi h 6 0 li + Int32.ofNat 1)) Γ (ysi h 6 1 li (z + Int32.ofNat 1)) n = some (.inl (), ysi (ysi h 6 1 li (z + Int32.ofNat 1)) 6 0 li (yi h 6 0 li + Int32.ofNat 1), 0, 0) := e_put H1 kn6_0
  unfold fJ19_linkLast_p38
  rw [i1, x_b1 g1, x_b1 p1, x_b1 g2, x_b1 p2]
  rfl
theorem k_llNew {q : Option Nat} : fJ30_init n q (some v) none Γ (xupd h n (true, .inr (25, [.null, .null, .null]))) (n + 1) = some (.inl (), xupd h n (true, .inr (25, [va_rf (some v), va_rf none, va_rf q])), 0, 0) := by
  have w1 : xput 25 0 (some n) (va_rf (some v)) Γ (xupd h n (true, .inr (25, [.null, .null, .null]))) (n + 1) = some (.inl (), xupd h n (true, .inr (25, [va_rf (some v), .null, .null])), 0, 0) := o1_p (by simp)
  have w2 : xput 25 1 (some n) (va_rf none) Γ (xupd h n (true, .inr (25, [va_rf (some v), .null, .null]))) (n + 1) = some (.inl (), xupd h n (true, .inr (25, [va_rf (some v), va_rf none, .null])), 0, 0) := o1_p (by simp)
  have w3 : xput 25 2 (some n) (va_rf q) Γ (xupd h n (true, .inr (25, [va_rf (some v), va_rf none, .null]))) (n + 1) = some (.inl (), xupd h n (true, .inr (25, [va_rf (some v), va_rf none, va_rf q])), 0, 0) := o1_p (by simp)
  unfold fJ30_init
  rw [x_b1 w1, x_b1 w2, x_b1 w3]
  rfl
theorem k_llAdd (H : kLl h li c D T) (hb : xbd n h) (hc : c < 20) : ∃ g, fJ19_linkLast li (some v) Γ h n = some (.inl (), g, 1, 3) ∧ kLl g li (c + 1) (va_up D c n) (va_up T c v) ∧ xbd (n + 1) g ∧ (∀ a, a ≠ n → yhd g a = yhd h a) ∧ ∀ a, a ≠ n → a ≠ li → (∀ i, i < c → a ≠ D i) → g a = h a := by
  obtain ⟨H1, H2, H3, H4, H5, H6, H7⟩ := H
  have o := yO_of _ _ _ H1
  have lin : li ≠ n := fun z => yO_at o (hb _ (by omega))
  have Dn : ∀ i, i < c → D i ≠ n := fun i hi z => yO_at (yO_of _ _ _ (H6 i hi).1) (hb _ (by omega))
  have g3 := e_gR (Γ := Γ) (n := n) o kn6_3
  rw [H4] at g3
  generalize hq' : (if 0 < c then some (D (c - 1)) else none) = q at *
  let h0 : xH := xupd h n (true, .inr (25, [va_rf (some v), va_rf none, va_rf q]))
  have ne0 : ∀ a, a ≠ n → h0 a = h a := fun a ha => up_ne ha
  have at0 : h0 n = some (true, .inr (25, [va_rf (some v), va_rf none, va_rf q])) := up_self
  have W0 : yW h0 6 li := (yW_c (ne0 _ lin)).mpr H1
  have N0 : yW h0 25 n := by unfold yW yhd; rw [at0]; cases q <;> rfl
  have n0 : yr h0 25 0 n = some v := by unfold yr yv; rw [at0]; rfl
  have n1 : yr h0 25 1 n = none := by unfold yr yv; rw [at0]; rfl
  have n2 : yr h0 25 2 n = q := by unfold yr yv; rw [at0]; cases q <;> rfl
  have b0 : xbd (n + 1) h0 := xbd_up1 hb
  have p1 : xput 6 3 (some li) (va_rf (some n)) Γ h0 (n + 1) = some (.inl (), ysr h0 6 3 li (some n), 0, 0) := e_put W0 (by rw [ykd_rf]; exact kn6_3)
  have W1 : yW (ysr h0 6 3 li (some n)) 6 li := (yW_sv _ _ _ _ _ _ _).mpr W0
  have hn : fJ30_init n q (some v) none Γ (xupd h n (true, .inr (25, [.null, .null, .null]))) (n + 1) = some (.inl (), h0, 0, 0) := k_llNew
  by_cases c0 : c = 0
  · have qn : q = none := by rw [← hq', if_neg (by omega)]
    have p2 : xput 6 2 (some li) (va_rf (some n)) Γ (ysr h0 6 3 li (some n)) (n + 1) = some (.inl (), ysr (ysr h0 6 3 li (some n)) 6 2 li (some n), 0, 0) := e_put W1 (by rw [ykd_rf]; exact kn6_2)
    have W2 : yW (ysr (ysr h0 6 3 li (some n)) 6 2 li (some n)) 6 li := (yW_sv _ _ _ _ _ _ _).mpr W1
    have z2 : yi (ysr (ysr h0 6 3 li (some n)) 6 2 li (some n)) 6 1 li = Int32.ofNat c := by
      rw [yi_sr W1 kn6_2 _ _ _ (by omega), yi_sr W0 kn6_3 _ _ _ (by omega), yi_c (ne0 _ lin), H2]
    have e38 := k_ll38 (Γ := Γ) (n := n + 1) W2 z2
    have W3 : yW (ysi (ysr (ysr h0 6 3 li (some n)) 6 2 li (some n)) 6 1 li (Int32.ofNat c + Int32.ofNat 1)) 6 li := (yW_sv _ _ _ _ _ _ _).mpr W2
    have hd : ∀ a, yhd (ysi (ysi (ysr (ysr h0 6 3 li (some n)) 6 2 li (some n)) 6 1 li (Int32.ofNat c + Int32.ofNat 1)) 6 0 li (yi (ysr (ysr h0 6 3 li (some n)) 6 2 li (some n)) 6 0 li + Int32.ofNat 1)) a = yhd h0 a := fun a => by
      rw [yhd_sv, yhd_sv, yhd_sv, yhd_sv]
    have rr : ∀ cc kk b, ¬ (cc = 6 ∧ kk < 2) → yr (ysi (ysi (ysr (ysr h0 6 3 li (some n)) 6 2 li (some n)) 6 1 li (Int32.ofNat c + Int32.ofNat 1)) 6 0 li (yi (ysr (ysr h0 6 3 li (some n)) 6 2 li (some n)) 6 0 li + Int32.ofNat 1)) cc kk b = if cc = 6 ∧ kk = 2 ∧ b = li then some n else if cc = 6 ∧ kk = 3 ∧ b = li then some n else yr h0 cc kk b := fun cc kk b hk => by
      rw [yr_si W3 kn6_0 _ _ _ (by omega), yr_si W2 kn6_1 _ _ _ (by omega), yr_sr W1 kn6_2, yr_sr W0 kn6_3]
    refine ⟨_, ?_, ⟨?_, ?_, ?_, ?_, by omega, fun i hi => ?_, fun i j hi hj _ => by omega⟩, xbd_hd b0 hd, fun a ha => (hd a).trans (yhd_c (ne0 a ha)), fun a a1 a2 _ => ?_⟩
    · unfold fJ19_linkLast
      rw [x_b1 g3, x_bc (show xnew 25 [.null, .null, .null] 3 Γ h n = some (.inl n, xupd h n (true, .inr (25, [.null, .null, .null])), 1, 3) from rfl), x_b1 hn, x_b1 p1, if_pos qn, x_b1 p2, e38]
      rfl
    · exact (yW_sv _ _ _ _ _ _ _).mpr W3
    · rw [yi_si W3 kn6_0, if_neg (by omega), yi_si W2 kn6_1, if_pos ⟨rfl, rfl, rfl⟩, i_add]
    · rw [rr _ _ _ (by omega), if_pos ⟨rfl, rfl, rfl⟩, if_pos (by omega), va_ap, if_pos (by omega)]
    · rw [rr _ _ _ (by omega), if_neg (by omega), if_pos ⟨rfl, rfl, rfl⟩, if_pos (by omega), va_ap, if_pos (by omega)]
    · have : i = c := by omega
      rw [this, va_ap, if_pos rfl, va_ap, if_pos rfl, rr _ _ _ (by omega), rr _ _ _ (by omega), rr _ _ _ (by omega), if_neg (by omega), if_neg (by omega), if_neg (by omega), if_neg (by omega), if_neg (by omega), if_neg (by omega), n0, n1, n2, if_neg (by omega), if_neg (by omega)]
      exact ⟨by unfold yW; rw [hd]; exact N0, rfl, rfl, qn⟩
    · exact (ysv_ne W3 a2).trans ((ysv_ne W2 a2).trans ((ysv_ne W1 a2).trans ((ysv_ne W0 a2).trans (ne0 a a1))))
  · have qs : q = some (D (c - 1)) := by rw [← hq', if_pos (by omega)]
    have WD : yW (ysr h0 6 3 li (some n)) 25 (D (c - 1)) := (yW_sv _ _ _ _ _ _ _).mpr ((yW_c (ne0 _ (Dn _ (by omega)))).mpr (H6 (c - 1) (by omega)).1)
    have p2 : xput 25 1 (some (D (c - 1))) (va_rf (some n)) Γ (ysr h0 6 3 li (some n)) (n + 1) = some (.inl (), ysr (ysr h0 6 3 li (some n)) 25 1 (D (c - 1)) (some n), 0, 0) := e_put WD (by rw [ykd_rf]; exact kn25_1)
    have W2 : yW (ysr (ysr h0 6 3 li (some n)) 25 1 (D (c - 1)) (some n)) 6 li := (yW_sv _ _ _ _ _ _ _).mpr W1
    have z2 : yi (ysr (ysr h0 6 3 li (some n)) 25 1 (D (c - 1)) (some n)) 6 1 li = Int32.ofNat c := by
      rw [yi_sr WD kn25_1 _ _ _ (by omega), yi_sr W0 kn6_3 _ _ _ (by omega), yi_c (ne0 _ lin), H2]
    have e38 := k_ll38 (Γ := Γ) (n := n + 1) W2 z2
    have W3 : yW (ysi (ysr (ysr h0 6 3 li (some n)) 25 1 (D (c - 1)) (some n)) 6 1 li (Int32.ofNat c + Int32.ofNat 1)) 6 li := (yW_sv _ _ _ _ _ _ _).mpr W2
    have hd : ∀ a, yhd (ysi (ysi (ysr (ysr h0 6 3 li (some n)) 25 1 (D (c - 1)) (some n)) 6 1 li (Int32.ofNat c + Int32.ofNat 1)) 6 0 li (yi (ysr (ysr h0 6 3 li (some n)) 25 1 (D (c - 1)) (some n)) 6 0 li + Int32.ofNat 1)) a = yhd h0 a := fun a => by
      rw [yhd_sv, yhd_sv, yhd_sv, yhd_sv]
    have rr : ∀ cc kk b, ¬ (cc = 6 ∧ kk < 2) → yr (ysi (ysi (ysr (ysr h0 6 3 li (some n)) 25 1 (D (c - 1)) (some n)) 6 1 li (Int32.ofNat c + Int32.ofNat 1)) 6 0 li (yi (ysr (ysr h0 6 3 li (some n)) 25 1 (D (c - 1)) (some n)) 6 0 li + Int32.ofNat 1)) cc kk b = if cc = 25 ∧ kk = 1 ∧ b = D (c - 1) then some n else if cc = 6 ∧ kk = 3 ∧ b = li then some n else yr h0 cc kk b := fun cc kk b hk => by
      rw [yr_si W3 kn6_0 _ _ _ (by omega), yr_si W2 kn6_1 _ _ _ (by omega), yr_sr WD kn25_1, yr_sr W0 kn6_3]
    refine ⟨_, ?_, ⟨?_, ?_, ?_, ?_, by omega, fun i hi => ?_, fun i j hi hj => ?_⟩, xbd_hd b0 hd, fun a ha => (hd a).trans (yhd_c (ne0 a ha)), fun a a1 a2 a3 => ?_⟩
    · unfold fJ19_linkLast
      rw [x_b1 g3, x_bc (show xnew 25 [.null, .null, .null] 3 Γ h n = some (.inl n, xupd h n (true, .inr (25, [.null, .null, .null])), 1, 3) from rfl), x_b1 hn, x_b1 p1, if_neg (by rw [qs]; exact fun z => nomatch z), qs, x_b1 p2, e38]
      rfl
    · exact (yW_sv _ _ _ _ _ _ _).mpr W3
    · rw [yi_si W3 kn6_0, if_neg (by omega), yi_si W2 kn6_1, if_pos ⟨rfl, rfl, rfl⟩, i_add]
    · rw [rr _ _ _ (by omega), if_neg (by omega), if_neg (by omega), if_pos (by omega), va_ap, if_neg (by omega), yr_c (ne0 _ lin), H3, if_pos (by omega)]
    · rw [rr _ _ _ (by omega), if_neg (by omega), if_pos ⟨rfl, rfl, rfl⟩, if_pos (by omega), va_ap, if_pos (by omega)]
    · by_cases ic : i = c
      · rw [ic, va_ap, if_pos rfl, va_ap, if_pos rfl, rr _ _ _ (by omega), rr _ _ _ (by omega), rr _ _ _ (by omega), if_neg (by omega), if_neg (by omega), if_neg (fun z => Dn (c - 1) (by omega) z.2.2.symm), if_neg (by omega), if_neg (by omega), if_neg (by omega), n0, n1, n2, if_neg (by omega), if_pos (by omega), va_ap, if_neg (by omega), qs]
        exact ⟨by unfold yW; rw [hd]; exact N0, rfl, rfl, rfl⟩
      · obtain ⟨k1, k2, k3, k4⟩ := H6 i (by omega)
        have ed := ne0 _ (Dn i (by omega))
        rw [va_ap D c n i, if_neg ic, va_ap T c v i, if_neg ic]
        refine ⟨by unfold yW; rw [hd]; exact (yW_c ed).mpr k1, ?_, ?_, ?_⟩
        · rw [rr _ _ _ (by omega), if_neg (by omega), if_neg (by omega), yr_c ed]; exact k2
        · rw [rr _ _ _ (by omega), if_pos (show i + 1 < c + 1 by omega), va_ap]
          by_cases il : i = c - 1
          · rw [if_pos ⟨rfl, rfl, by rw [il]⟩, if_pos (by omega)]
          · rw [if_neg (fun z => il (H7 _ _ (by omega) (by omega) z.2.2)), if_neg (by omega), yr_c ed, k3, if_pos (by omega), if_neg (by omega)]
        · rw [rr _ _ _ (by omega), if_neg (by omega), if_neg (by omega), yr_c ed, k4, va_ap, if_neg (show ¬ i - 1 = c by omega)]
    · rw [va_ap, va_ap]
      intro z
      by_cases q1 : i = c
      · by_cases q2 : j = c
        · omega
        · rw [if_pos q1, if_neg q2] at z
          exact absurd z.symm (Dn j (by omega))
      · by_cases q2 : j = c
        · rw [if_neg q1, if_pos q2] at z
          exact absurd z (Dn i (by omega))
        · rw [if_neg q1, if_neg q2] at z
          exact H7 i j (by omega) (by omega) z
    · have ad := a3 (c - 1) (by omega)
      exact (ysv_ne W3 a2).trans ((ysv_ne W2 a2).trans ((ysv_ne WD ad).trans ((ysv_ne W0 a2).trans (ne0 a a1))))
end KLA
