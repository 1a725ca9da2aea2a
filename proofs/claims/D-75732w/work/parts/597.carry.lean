/-! part 597: a plan is carried out -/
section CR
variable {Γ : Nat → Option Nat} {g : xH} {n m mm x hi dep kc : Nat} {Dh P FE mx : Nat → Nat} {a D T B M : Nat → Nat → Nat} {E : Nat → Nat → Nat → Nat} {Nn : Nat → Nat → Int32}
theorem k_carry (R : kRec n m g x hi dep Dh a E P FE Nn mx D T B M) (hc : 0 < nn (Nn dep 3)) (hk : kKd g kc (Nn dep 5))
    (hb0 : 0 ≤ (pTot (Nn dep) (nn (Nn dep 6)) (nn (Nn dep (zI (nn (Nn dep 6)) 1)))).toInt) (hm : pTot (Nn dep) (nn (Nn dep 6)) (nn (Nn dep (zI (nn (Nn dep 6)) 1))) = 0 → Nn dep (zI (nn (Nn dep 6)) 4) = 0) :
    ∃ g', xsel (some kc) [(50, fun z => fX23_carryOut z (some (E dep (nn (Nn dep 6)) 0)) (Nn dep 7) (Nn dep 8)), (51, fun z => fX24_carryOut z (some (E dep (nn (Nn dep 6)) 0)) (Nn dep 7) (Nn dep 8)), (52, fun z => fX25_carryOut z (some (E dep (nn (Nn dep 6)) 0)) (Nn dep 7) (Nn dep 8))] Γ g mm = some (.inl (), g', 0, 0) ∧ kRec n m g' x hi dep Dh a E P FE (va_up Nn dep (pCarry (Nn dep))) mx D T B M ∧ chg (Nn dep) (pCarry (Nn dep)) (nn (Nn dep 6)) ∧ ∀ q, (∀ k, k < 5 → q ≠ E dep (nn (Nn dep 6)) k) → g' q = g q := by
  have F := R.now
  have ok := F.2.2.2.1
  have og := F.2.2.2.2.1
  have hp := ok.2.2.2.2.2.2.2.2.2 0 hc
  unfold okP at hp
  simp only [Nat.mul_zero, Nat.add_zero, Nat.reduceAdd] at hp
  obtain ⟨p1, p2, p3, p4⟩ := hp
  generalize hs : nn (Nn dep 6) = s at *
  obtain ⟨z1, h12, -⟩ := ok.2.2.2.2.2.2.2.2.1 s p2
  generalize hz : nn (Nn dep 7) = z at *
  have e7 : Nn dep 7 = Int32.ofNat z := by unfold nN at p3; rw [hz] at p3; exact p3
  obtain ⟨q, hq, A⟩ := R.hv p2
  have d := R.hD p2
  have zz : ∀ j, j < 13 → nn (Nn dep (zI s 1)) < j → Nn dep (zI s (39 + j)) = Int32.ofNat 0 := (F.1.2.2.2.2.2.2.2.2.2.2.2 s p2).2.2.2.2.2.2.2.2.2.2.2.2.1
  have fr : ∀ (q' : hP) w, (∀ k, k < 5 → w ≠ E dep s k) → hV g (E dep s) (P s) q' w = g w := fun q' w hw => hv_o hw
  have c39 := A.2.1 z (by omega)
  obtain ⟨k, k1, k2, k3, k4⟩ := hk
  have im : (1000000 : Int32) = Int32.ofNat 1000000 := rfl
  unfold pCarry
  rw [hs, hz]
  rcases (show k = 0 ∨ k = 1 ∨ k = 2 by omega) with rfl | rfl | rfl
  · rw [if_pos k2]
    have C : chg (Nn dep) (pAdds (Nn dep) s z (imin (Nn dep 8) (Int32.ofNat 1000000 - Nn dep (zI s (39 + z))))) s := chg.adds (by omega)
    have A' := hA_add (j := z) (v := imin (Nn dep 8) (Int32.ofNat 1000000 - Nn dep (zI s (39 + z)))) A h12 (by omega)
    refine ⟨hV g (E dep s) (P s) (qAdd q z (imin (Nn dep 8) (Int32.ofNat 1000000 - Nn dep (zI s (39 + z))))), ?_, R.put p2 A' (fun i hi' hn => ?_) C.n1 C.n2 (C.og og), C, fr _⟩
    · rw [e_sel k3]
      unfold fX23_carryOut
      have c0 := hv_coh (Γ := Γ) (n := mm) (h := g) (p := P s) (q := q) d (show z < 13 by omega)
      have a0 := hv_add (Γ := Γ) (n := mm) (h := g) (p := P s) (q := q) (v := imin (Nn dep 8) (Int32.ofNat 1000000 - Nn dep (zI s (39 + z)))) d (show z < 13 by omega)
      rw [← hq, c39] at c0
      rw [← hq] at a0
      rw [e7, x_b1 c0, im, x_b1 (i_im _ _ _ _ _), x_b1 a0]
      rfl
    · rw [C.ne (by unfold wM; omega)] at hn
      unfold pAdds
      rw [va_ap, if_neg (zI_ne (by omega)), va_ap, if_neg (zI_ne (by omega))]
      exact zz i hi' hn
  · rw [if_neg (by rw [k2]; decide), if_pos k2]
    have C : chg (Nn dep) (pTake (Nn dep) s (nn (Nn dep (zI s 1))) z (imin (Nn dep 8) (imin (Nn dep (zI s (39 + z))) (imax (Int32.ofNat 0) (Nn dep (zI s 5) - Nn dep (zI s 10)))))) s := chg.take (by omega)
    have A' := hA_take (j := z) (v := imin (Nn dep 8) (imin (Nn dep (zI s (39 + z))) (imax (Int32.ofNat 0) (Nn dep (zI s 5) - Nn dep (zI s 10))))) A h12 zz p4 hb0 hm
    refine ⟨hV g (E dep s) (P s) (qTake q z (imin (Nn dep 8) (imin (Nn dep (zI s (39 + z))) (imax (Int32.ofNat 0) (Nn dep (zI s 5) - Nn dep (zI s 10)))))), ?_, R.put p2 A' (fun i hi' hn => ?_) C.n1 C.n2 (C.og og), C, fr _⟩
    · rw [e_sel2 k3 (by omega), e_sel k3]
      unfold fX24_carryOut
      have c0 := hv_coh (Γ := Γ) (n := mm) (h := g) (p := P s) (q := q) d (show z < 13 by omega)
      have l0 := hv_left (Γ := Γ) (n := mm) (h := g) (p := P s) (q := q) d
      have a0 := hv_take (Γ := Γ) (n := mm) (h := g) (p := P s) (q := q) (v := imin (Nn dep 8) (imin (Nn dep (zI s (39 + z))) (imax (Int32.ofNat 0) (Nn dep (zI s 5) - Nn dep (zI s 10))))) d (show z < 13 by omega)
      rw [← hq, c39] at c0
      rw [← hq, A.2.2.2.2.2.2.2.2.2.2, A.2.2.2.2.2.2.2.2.1] at l0
      rw [← hq] at a0
      rw [e7, x_b1 c0, x_b1 l0, x_b1 (i_im _ _ _ _ _), x_b1 (i_im _ _ _ _ _), x_b1 a0]
      rfl
    · rw [C.ne (by unfold wM; omega)] at hn
      unfold pTake
      rw [pLose_c (by omega), pTake0_ne (by omega) (by omega)]
      exact zz i hi' hn
  · rw [if_neg (by rw [k2]; decide), if_neg (by rw [k2]; decide)]
    have C : chg (Nn dep) (pSickens (Nn dep) s (nn (Nn dep (zI s 1))) z 1 (Nn dep 8)).1 s := chg.sick (by omega)
    obtain ⟨A', -⟩ := hA_sick (x := z) (k := 1) (Nn dep 8) A h12 zz (by omega) hb0 hm
    refine ⟨hV g (E dep s) (P s) (qSk1 (Nn dep 8) (isum q.f3 0 13) z 1 q (Int32.ofNat 0)), ?_, R.put p2 A' (fun i hi' hn => ?_) C.n1 C.n2 (C.og og), C, fr _⟩
    · rw [e_sel2 k3 (by omega), e_sel2 k3 (by omega), e_sel k3]
      unfold fX25_carryOut
      have a0 := hv_sick (Γ := Γ) (n := mm) (h := g) (p := P s) (q := q) d (Nat.le_refl z) (show z ≤ 12 by omega) (Nn dep 8)
      rw [← hq, show z + 1 - z = 1 by omega] at a0
      rw [e7, x_b1 a0]
      rfl
    · rw [C.ne (by unfold wM; omega)] at hn
      unfold pSickens
      dsimp only
      rw [pLose_c (by omega), va_ap, if_neg (zI_ne (by omega)), pSick_ne s (Nn dep 8) _ _ _ _ _ (by unfold zI; omega)]
      exact zz i hi' hn
end CR
