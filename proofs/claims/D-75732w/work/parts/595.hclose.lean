/-! part 595: a herd's year is closed, up to the book -/
def qAge (q : hP) (w : Nat → Int32) (o : Nat) : hP := (q.s3 (kC q.f3 q.f1 w o q.r)).sk (kU q.f3 q.f1 o) (kB q.f3 q.f1 w o q.r)
/-- what is noted in the ledger -/
def qNote (q : hP) (t : Int32) : hP := ((qLose q t q.u).sl (va_up (va_up (va_up (qLose q t q.u).l 1 ((qLose q t q.u).l 1 + q.b)) 2 (va_up (qLose q t q.u).l 1 ((qLose q t q.u).l 1 + q.b) 2 + (t - q.u))) 5 (isum q.f3 0 13)))
section HL
variable {Γ : Nat → Option Nat} {h : xH} {n p fe o a s : Nat} {Y : Nat → Nat} {q : hP} {yy : Int32} {N : Nat → Int32}
theorem hv_age (d : hD Y) (hsp : kSp (hV h Y p q) p fe o a) (np : ∀ k, k < 5 → p ≠ Y k) (nf : ∀ k, k < 5 → fe ≠ Y k) : xsel (some (Y 2)) [(24, fun z => fX10_close z (some (Y 1)) q.r)] Γ (hV h Y p q) n = some (.inl (), hV h Y p (qAge q (yli (hV h Y p q) 1 fe) o), 0, 0) := by
  have ne : ∀ j k, j < 5 → k < 5 → j ≠ k → Y j ≠ Y k := fun j k hj hk e z => e (d j k hj hk z)
  have K := hv_kSt (h := h) (p := p) (q := q) d
  have e0 : hV h Y p q = kS (hV h Y p q) (Y 2) (Y 3) p q.f3 q.u q.b := by
    have := K.eq
    rw [hv_f3 d] at this
    have u : yi (hV h Y p q) 24 2 (Y 2) = q.u := by unfold yi yv; rw [hv_2 d]; rfl
    have b : yi (hV h Y p q) 24 3 (Y 2) = q.b := by unfold yi yv; rw [hv_2 d]; rfl
    rw [u, b] at this
    exact this
  have f1 : yli (hV h Y p q) 1 (Y 1) = q.f1 := by unfold yli yc; rw [hv_1 d]; rfl
  have A1 : yA (hV h Y p q) 1 (Y 1) := ⟨true, 13, by unfold yhd; rw [hv_1 d]; rfl⟩
  have l1 : yln (hV h Y p q) (Y 1) = 13 := by unfold yln yhd; rw [hv_1 d]; rfl
  have c := k_close (Γ := Γ) (n := n) (h := hV h Y p q) (st := Y 2) (co := Y 3) (p := p) (f := q.f3) (u := q.u) (b := q.b) (room := q.r) (ne 2 3 (by omega) (by omega) (by omega)) hsp A1 l1 (np 2 (by omega)) (np 3 (by omega)) (nf 2 (by omega)) (nf 3 (by omega)) (ne 1 2 (by omega) (by omega) (by omega)) (ne 1 3 (by omega) (by omega) (by omega))
  rw [← e0, f1] at c
  rw [hv_sel2 d, c]
  congr 3
  refine hv_ext d ?_ ?_ ?_ ?_ ?_ (fun x hx => ?_)
  · rw [ks_o (ne 0 2 (by omega) (by omega) (by omega)) (ne 0 3 (by omega) (by omega) (by omega)), hv_0 d]; rfl
  · rw [ks_o (ne 1 2 (by omega) (by omega) (by omega)) (ne 1 3 (by omega) (by omega) (by omega)), hv_1 d]; rfl
  · rw [ks_1 (ne 2 3 (by omega) (by omega) (by omega))]; rfl
  · rw [ks_2]; rfl
  · rw [ks_o (ne 4 2 (by omega) (by omega) (by omega)) (ne 4 3 (by omega) (by omega) (by omega)), hv_4]; rfl
  · rw [ks_o (hx 2 (by omega)) (hx 3 (by omega)), hv_o hx]
/-- up to the book -/
theorem hv_close (d : hD Y) (hsp : kSp (hV h Y p q) p fe o a) (np : ∀ k, k < 5 → p ≠ Y k) (nf : ∀ k, k < 5 → fe ≠ Y k) : xsel (some (Y 0)) [(19, fun z => fX6_close z yy)] Γ (hV h Y p q) n = (xbind (xgR 19 0 (some (Y 0))) fun v90 => xbind (xgR 20 5 v90) fun v93 => xbind (fJ17_valueOf yy) fun v97 => xbind (xgR 19 6 (some (Y 0))) fun v101 => xbind (xsel v93 [(16, fun z => fJ29_put z v97 v101)]) fun v104 => xbind (xcst (fun c => c == 22) v104) fun _ => xbind (xsel (some (Y 0)) [(19, fun z => fX6_begin z (yy + (1 : Int32)))]) fun _ => xpure ()) Γ (hV h Y p (qNote (qAge q (yli (hV h Y p q) 1 fe) o) (isum q.f3 0 13))) n := by
  rw [hv_sel d]
  unfold fX6_close
  rw [x_b1 (hv_g2 d), x_b1 (hv_tot d), x_b1 (hv_g2 d), x_b1 (hv_g1 d), x_b1 (hv_g3 d), x_b1 (hv_age d hsp np nf), x_b1 (hv_g2 d), x_b1 (hv_k2 d), x_b1 (hv_lose d _ _), x_b1 (hv_g6 d), x_b1 (hv_l (by omega)), x_b1 (hv_g2 d), x_b1 (hv_k3 d), x_b1 (hv_pl d (by omega)), x_b1 (hv_g6 d), x_b1 (hv_l (by omega)), x_b1 (hv_g2 d), x_b1 (hv_k2 d), x_b1 (hv_pl d (by omega)), x_b1 (hv_g6 d), x_b1 (hv_g2 d), x_b1 (hv_tot d), x_b1 (hv_pl d (by omega))]
  rfl
/-! the twin's numbers -/
theorem pAges_4 (ho : o ≤ 12) : pAges N s o (zI s 4) = pLose (pAgB N s o) s o (pTot N s o) (zI s 4) := by
  unfold pAges pAgD
  rw [va_ap, if_neg (zI_ne (by omega)), va_ap, if_neg (zI_ne (by omega))]
  rfl
theorem pAges_8 (ho : o ≤ 12) : pAges N s o (zI s 8) = N (zI s 8) + pAges N s o (zI s 39) := by
  have e39 : ∀ b, pAgD (pAgC N s o) s b (zI s 39) = b := fun b => by
    unfold pAgD
    rw [va_ap, if_neg (zI_ne (by omega)), va_ap, if_pos rfl]
  have e8 : ∀ b, pAgD (pAgC N s o) s b (zI s 8) = N (zI s 8) + b := fun b => by
    unfold pAgD
    rw [va_ap, if_pos rfl, va_ap, if_neg (zI_ne (by omega)), pAgC_ne (zI_ne (by omega)) (zI_ne (by omega)) (Or.inl (by unfold zI; omega)) ho]
  unfold pAges
  rw [e39, e8]
theorem pAges_9 (ho : o ≤ 12) : pAges N s o (zI s 9) = N (zI s 9) + (pTot N s o - pTot (pAgA N s o) s o) := by
  unfold pAges pAgD
  rw [va_ap, if_neg (zI_ne (by omega)), va_ap, if_neg (zI_ne (by omega))]
  unfold pAgC
  rw [pLose_c (by omega)]
  unfold pAgB
  rw [va_ap, if_pos rfl]
  congr 1
  unfold pAgA
  rw [va_ap, if_neg (zI_ne (by omega))]
  unfold pSh
  rw [if_neg (by unfold zI; omega)]
theorem hA_close {w : Nat → Int32} (A : hA q N s) (ho : nn (N (zI s 1)) ≤ 12) (hb : bN N s) (hw : ∀ j, j < 13 → w j = N (zI s (26 + j))) (z : ∀ j, j < 13 → nn (N (zI s 1)) < j → N (zI s (39 + j)) = Int32.ofNat 0) (hb0 : 0 ≤ (pTot N s (nn (N (zI s 1)))).toInt) (hm : pTot N s (nn (N (zI s 1))) = 0 → N (zI s 4) = 0) : hA (qNote (qAge q w (nn (N (zI s 1)))) (isum q.f3 0 13)) (pAges N s (nn (N (zI s 1)))) s ∧ (qNote (qAge q w (nn (N (zI s 1)))) (isum q.f3 0 13)).l 5 = isum (kC q.f3 q.f1 w (nn (N (zI s 1))) q.r) 0 13 := by
  generalize hoo : nn (N (zI s 1)) = o at *
  have T := hA_tot A (by omega) (by rw [hoo]; exact z)
  rw [hoo] at T
  have st : ∀ j, j ≠ 4 → j ≠ 8 → j ≠ 9 → j < 39 → pAges N s o (zI s j) = N (zI s j) := fun j h4 h8 h9 hj => pAges_st ho h4 h8 h9 hj
  have cg := kC_congr (room := N (zI s 3)) ho A.2.1 (v := q.f1) (v' := rV N s) (w := w) (w' := rF N s) (f' := rC N s) (fun j hj => A.1 j (by omega)) (fun j hj => hw j hj)
  have hr := A.2.2.1
  have coh : ∀ j, j < 13 → kC q.f3 q.f1 w o q.r j = pAges N s o (zI s (39 + j)) := fun j hj => by
    rw [hr, cg j hj]
    exact kC_ages hb ho hj
  have hu : kU q.f3 q.f1 o = pTot (pAgA N s o) s o := by
    rw [pTot_agA]
    exact isum_congr _ _ (fun j h1 h2 => by unfold kG; rw [A.2.1 (j - 1) (by omega), A.1 (j - 1) (by omega)]; rfl)
  have hB : kB q.f3 q.f1 w o q.r = pAges N s o (zI s 39) := by
    have := coh 0 (by omega)
    unfold kC at this
    rw [va_ap, if_pos rfl] at this
    exact this
  refine ⟨?_, rfl⟩
  have e1 := st 1 (by omega) (by omega) (by omega) (by omega)
  unfold hA
  rw [e1, hoo]
  refine ⟨fun j hj => ?_, fun j hj => coh j hj, ?_, ?_, ?_, ?_, ?_, ?_, ?_, ?_, ?_⟩
  · rw [st _ (by omega) (by omega) (by omega) (by omega)]; exact A.1 j (by omega)
  · rw [st 3 (by omega) (by omega) (by omega) (by omega)]; exact A.2.2.1
  · rw [pAges_4 ho]
    show (if isum q.f3 0 13 = 0 then 0 else ((q.m.toInt64 * (kU q.f3 q.f1 o).toInt64) / (isum q.f3 0 13).toInt64).toInt32) = _
    rw [T, hu]
    have m4 : pAgB N s o (zI s 4) = N (zI s 4) := by
      unfold pAgB pAgA
      rw [va_ap, if_neg (zI_ne (by omega)), va_ap, if_neg (zI_ne (by omega))]
      unfold pSh
      rw [if_neg (by unfold zI; omega)]
    have tB : pTot (pAgB N s o) s o = pTot (pAgA N s o) s o := by
      unfold pTot
      exact isum_congr _ _ (fun j h1 h2 => by unfold pAgB; rw [va_ap, if_neg (zI_ne (by omega))])
    unfold pLose
    by_cases c : pTot N s o = 0
    · rw [if_pos c, if_pos (by rw [c]; decide), m4, hm c]
    · have hp : ¬ pTot N s o ≤ 0 := by
        rw [Int32.le_iff_toInt_le]
        intro zz
        have z0 : (0 : Int32).toInt = 0 := by decide
        exact c (Int32.toInt_inj.mp (by omega))
      rw [if_neg c, if_neg hp, va_ap, if_pos rfl, m4, tB, A.2.2.2.1]
  · rw [st 6 (by omega) (by omega) (by omega) (by omega)]; exact A.2.2.2.2.1
  · rw [st 7 (by omega) (by omega) (by omega) (by omega)]; exact A.2.2.2.2.2.1
  · rw [pAges_8 ho]
    show q.l 1 + kB q.f3 q.f1 w o q.r = _
    rw [hB, A.2.2.2.2.2.2.1]
  · rw [pAges_9 ho]
    show q.l 2 + (isum q.f3 0 13 - kU q.f3 q.f1 o) = _
    rw [T, hu, A.2.2.2.2.2.2.2.1]
  · rw [st 10 (by omega) (by omega) (by omega) (by omega)]; exact A.2.2.2.2.2.2.2.2.1
  · rw [st 11 (by omega) (by omega) (by omega) (by omega)]; exact A.2.2.2.2.2.2.2.2.2.1
  · rw [st 5 (by omega) (by omega) (by omega) (by omega)]; exact A.2.2.2.2.2.2.2.2.2.2
end HL
