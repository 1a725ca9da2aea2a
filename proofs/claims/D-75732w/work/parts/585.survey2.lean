/-! part 585: a survey, whole -/
section SV
variable {Γ : Nat → Option Nat} {h : xH} {n x hi dep t : Nat} {Dh P FE mx : Nat → Nat} {a D T B M : Nat → Nat → Nat} {E : Nat → Nat → Nat → Nat} {Nn : Nat → Nat → Int32} {v r : Int32}
theorem k_chg (H : kHs h x hi dep Dh a E P FE Nn mx D T B M) (hb : xbd n h) (ht : t < nn (Nn dep 0)) :
    ∃ g Dh' E' D' T' dc ds, xsel (some x) [(0, fun z => fX1_changed z (Int32.ofNat t))] Γ h n = some (.inl (some (E' t 0)), g, dc, ds) ∧ dc ≤ 61 ∧ ds ≤ 910 ∧ kRec n (n + dc) g x hi (dep + 1 - shD dep) Dh' (shF dep a (fun k => n + 1 + k)) (shF dep E E') P FE (shF dep Nn (Nn dep)) (shF dep mx (mx dep)) (shF dep D D') (shF dep T T') (shF dep B (B dep)) (shF dep M (M dep)) ∧ (∀ k, k ≠ 4 → yr g 0 k x = yr h 0 k x) ∧ (∀ k, yi g 0 k x = yi h 0 k x) ∧ (∀ q, h q ≠ none → q ≠ x → q ≠ hi → (∀ k, k < dep → q ≠ Dh k) → g q = h q) ∧ (∀ q, h q ≠ none → yhd g q = yhd h q) := by
  obtain ⟨g, Dh', E', D', T', dc, ds, r1, r2, r3, R, r5⟩ := k_rec (Γ := Γ) H hb
  have e0 : shF dep Nn (Nn dep) (dep + 1 - shD dep) = Nn dep := shF_eq
  have eE : shF dep E E' (dep + 1 - shD dep) = E' := shF_eq
  have ht' : t < nn (shF dep Nn (Nn dep) (dep + 1 - shD dep) 0) := by rw [e0]; exact ht
  have gt := R.get (Γ := Γ) ht'
  rw [eE] at gt
  refine ⟨g, Dh', E', D', T', dc, ds, ?_, r2, r3, R, r5⟩
  rw [e_sel (yO_of _ _ _ H.1)]
  unfold fX1_changed
  rw [x_bc r1, gt]
  rfl
theorem k_survey63 (H : kHs h x hi dep Dh a E P FE Nn mx D T B M) (hb : xbd n h) (ht : t < nn (Nn dep 0)) (hr : ¬ r.toInt64 + (1 : Int64) = 0) :
    ∃ g dc ds, fX1_survey_p63 x (Int32.ofNat t) v r (Int32.ofNat 1) Γ h n = some (.inl (pEst (pSurvey (Nn dep) t (Nn dep (zI t 4)) v r) t 0), g, dc, ds) ∧ dc ≤ 63 ∧ ds ≤ 950 ∧ kMr h n x hi dep Dh a E P FE Nn mx D T B M (pSurvey (Nn dep) t (Nn dep (zI t 4)) v r) (mx dep) g dc := by
  obtain ⟨g, Dh', E', D', T', dc, ds, r1, r2, r3, R, r5, r6, r7, r8⟩ := k_chg (Γ := Γ) H hb ht
  have e0 : shF dep Nn (Nn dep) (dep + 1 - shD dep) = Nn dep := shF_eq
  have eE : shF dep E E' (dep + 1 - shD dep) = E' := shF_eq
  have ht' : t < nn (shF dep Nn (Nn dep) (dep + 1 - shD dep) 0) := by rw [e0]; exact ht
  have F := R.now
  have ok := F.2.2.2.1
  have K := F.1.2.2.2.2.2.2.2.2.2.2.2 t ht'
  have Fr := R.2.2.2.2.1
  have hbg := R.2.2.2.2.2.2.2.2
  have W := H.w
  have h12 := (kw_12 W ht).1
  have t4 := (kw_12 W ht).2.2
  have oX := yO_of _ _ _ R.1.1
  have oS := yO_of _ _ _ F.1.1
  have x4 := R.1.2.1
  have yS := F.1.2.2.2.1
  rw [eE, e0] at K Fr
  rw [e0] at yS
  have inj : ∀ j k, j < 7 → k < 7 → E' t j = E' t k → j = k := fun j k hj hk zz => (Fr.2 t j t k ht hj ht hk zz).2
  obtain ⟨Q, Dq, S⟩ := K.2.2.2.2.2.2.2.2.2.2.2.2.2.2
  obtain ⟨hd, cap, Dc⟩ := Dq.dc
  obtain ⟨eg, ef, ne⟩ := Dc.dv
  have hc := Dc.2.2.2.2.1
  have hh := Dc.2.2.2.2.2.1
  have hl := Dc.2.2.2.2.2.2.1
  have l20 := S.2.1
  have y37 : ∀ y, y ∈ Q → yO g 37 y := by
    intro y hy
    obtain ⟨j, hj, rfl⟩ := List.getElem_of_mem hy
    exact (S.2.2 j hj).1
  -- the oldest one goes, if there are twenty
  have st1 : ∃ g1 Q1, fX1_survey_p63 x (Int32.ofNat t) v r (Int32.ofNat 1) Γ h n = xadd dc ds (fX1_survey_p99 x v r (some (E' t 0)) Γ g1 (n + dc)) ∧ kDc g1 (E' t 5) (E' t 6) Q1 hd cap ∧ Q1 = Q.take 19 ∧ (∀ q, yhd g1 q = yhd g q) ∧ (∀ q, q ≠ E' t 5 → q ≠ E' t 6 → g1 q = g q) := by
    have sz := kd_size (Γ := Γ) (n := n + dc) Dq
    have i20 : (20 : Int32) = Int32.ofNat 20 := rfl
    by_cases c : Q.length = 20
    · obtain ⟨Q0, z, hz⟩ : ∃ Q0 z, Q = Q0 ++ [z] := ⟨Q.dropLast, Q.getLast (by intro e; rw [e] at c; simp at c), (List.dropLast_concat_getLast _).symm⟩
      have l19 : Q0.length = 19 := by rw [hz, List.length_append, List.length_singleton] at c; omega
      rw [hz] at ef eg hl
      obtain ⟨f', q1, q2⟩ := k_drop1 (Γ := Γ) (n := n + dc) (h := g) ne hc hh hl ef
      rw [← eg] at q1
      have yz : yO (kDv g (E' t 5) (E' t 6) hd ((hd + Q0.length) % cap) cap f') 37 z := by
        have y0 := y37 z (by rw [hz]; simp)
        exact (yO_c (dv_o (yO_ne y0 (yO_of _ _ _ Dc.1) (by omega)) (yOA_ne y0 (yA_of _ _ _ Dc.2.2.1)))).mpr y0
      refine ⟨kDv g (E' t 5) (E' t 6) hd ((hd + Q0.length) % cap) cap f', Q0, ?_, dv_c (g := f') ne hc hh (by rw [List.length_append, List.length_singleton] at hl; omega) q2, ?_, fun q => ?_, fun q a1 a2 => dv_o a1 a2⟩
      · unfold fX1_survey_p63
        rw [x_b1 k_carg1, x_bc r1, x_b1 (kh_7 K), x_b1 sz, if_pos (by rw [c]; rfl), x_b1 (kh_7 K), x_b1 q1, x_b1 (k_cst yz rfl)]
      · rw [hz, List.take_append_of_le_length (by omega), List.take_of_length_le (by omega)]
      · by_cases a1 : q = E' t 6
        · rw [a1]
          unfold yhd
          rw [dv_e]
          obtain ⟨N1, yy, hcell, hk, hll, -⟩ := yarrB Dc.2.2.1
          rw [hcell]
          rw [Dc.2.2.2.1] at hll
          show some (true, Sum.inl (5, cap, 4)) = some (true, Sum.inl (5, N1, ykc yy))
          rw [hk, hll]
          rfl
        · by_cases a2 : q = E' t 5
          · rw [a2]
            have w := Dc.1
            unfold yW at w
            rw [w]
            unfold yhd
            rw [dv_d ne]
            rfl
          · exact yhd_c (dv_o a2 a1)
    · refine ⟨g, Q, ?_, Dc, ?_, fun _ => rfl, fun _ _ _ => rfl⟩
      · unfold fX1_survey_p63
        rw [x_b1 k_carg1, x_bc r1, x_b1 (kh_7 K), x_b1 sz, if_neg (by rw [i20, i_eq (by omega) (by omega)]; exact c)]
      · rw [List.take_of_length_le (by omega)]
  obtain ⟨g1, Q1, s1, s2, s3, s4, s5⟩ := st1
  have lQ1 : Q1.length ≤ 19 := by rw [s3, List.length_take]; omega
  have b1 : xbd (n + dc) g1 := xbd_hd hbg s4
  have low : ∀ q, q < n + 6 → g1 q = g q := fun q hq => s5 q (by have := (Fr.1 t 5 ht (by omega)).1; omega) (by have := (Fr.1 t 6 ht (by omega)).1; omega)
  have a0 := R.2.2.2.1 0
  have exn : g1 x = g x := low x (by have := R.2.1.1; omega)
  have esn : g1 (shF dep a (fun k => n + 1 + k) (dep + 1 - shD dep) 0) = g (shF dep a (fun k => n + 1 + k) (dep + 1 - shD dep) 0) := low _ (by rw [a0]; omega)
  have n05 : E' t 0 ≠ E' t 5 := fun z => absurd (inj 0 5 (by omega) (by omega) z) (by omega)
  have n06 : E' t 0 ≠ E' t 6 := fun z => absurd (inj 0 6 (by omega) (by omega) z) (by omega)
  have e00 : g1 (E' t 0) = g (E' t 0) := s5 _ n05 n06
  have yQ1 : ∀ y, y ∈ Q1 → yO g1 37 y := fun y hy => by
    rw [s3] at hy
    have y0 := y37 y (List.mem_of_mem_take hy)
    exact (yO_c (s5 _ (yO_ne y0 (yO_of _ _ _ Dc.1) (by omega)) (yOA_ne y0 (yA_of _ _ _ Dc.2.2.1)))).mpr y0
  obtain ⟨g2, e', hd', cap', dc2, ds2, t1, t2, t3, tb, t5, t6, t7, t8, t9, u0, u1, u2, u3⟩ := k_sv99 (Γ := Γ) (v := v) (r := r) (mk := Nn dep (zI t 4)) (yy := Nn dep 1) b1 ((yO_c exn).mpr oX) ((yr_c exn).trans x4) ((yO_c esn).mpr oS) ((yi_c esn).trans yS) ((yO_c e00).mpr (yO_of _ _ _ K.1)) ((yi_c e00).trans K.2.2.2.2.2.1) ((yr_c e00).trans K.2.2.2.2.2.2.2.2.1) s2 lQ1 yQ1 hr
  have o1 : ∀ q, g q ≠ none → g1 q ≠ none := fun q hq => hd_at (s4 q) hq
  have fr : ∀ q, g q ≠ none → q ≠ E' t 5 → q ≠ E' t 6 → g2 q = g q := fun q hq a1 a2 => (t8 q (o1 q hq) a1 a2).trans (s5 q a1 a2)
  let N' : Nat → Int32 := pSurvey (Nn dep) t (Nn dep (zI t 4)) v r
  let Y' : Nat → Nat := fun k => if k = 6 then e' else E' t k
  have nq : ∀ w, w ≠ 12 → w < 52 → N' (zI t w) = Nn dep (zI t w) := fun w h1 h2 => pSv_ne (zI_ne h1) (by unfold zI; omega)
  have lQ : Nn dep (zI t 12) = Int32.ofNat Q.length := S.1
  have KK : kHd g2 Y' (P t) N' t := by
    have kt := fun k (hk : k < 7) => K.at k (by omega)
    have ek : ∀ k, k < 5 → g2 (E' t k) = g (E' t k) := fun k hk => fr _ (kt k (by omega)) (fun z => absurd (inj k 5 (by omega) (by omega) z) (by omega)) (fun z => absurd (inj k 6 (by omega) (by omega) z) (by omega))
    have K' := K
    obtain ⟨h1, h2, h3, h4, h5, h6, h7, h8, h9, ⟨p1, p2, p3⟩, h10, h11, hz, ⟨l1, l2, l3, l4, l5, l6, l7⟩, -⟩ := K'
    have c0 := ek 0 (by omega)
    have c1 := ek 1 (by omega)
    have c4 := ek 4 (by omega)
    refine ⟨(yW_c c0).mpr h1, (yr_c c0).trans h2, (yr_c c0).trans h3, (yr_c c0).trans h4, ((yi_c c0).trans h5).trans (nq 3 (by omega) (by omega)).symm, ((yi_c c0).trans h6).trans (nq 4 (by omega) (by omega)).symm, ((yi_c c0).trans h7).trans (nq 6 (by omega) (by omega)).symm, (yr_c c0).trans h8, (yr_c c0).trans h9, ⟨(yB_c c1).mpr p1, (yln_c c1).trans p2, fun j hj => ?_⟩, h10.cg (ek 2 (by omega)) (ek 3 (by omega)), fun j hj => ?_, fun j hj hn => ?_, ⟨(yW_c c4).mpr l1, ((yi_c c4).trans l2).trans (nq 7 (by omega) (by omega)).symm, ((yi_c c4).trans l3).trans (nq 8 (by omega) (by omega)).symm, ((yi_c c4).trans l4).trans (nq 9 (by omega) (by omega)).symm, ((yi_c c4).trans l5).trans (nq 10 (by omega) (by omega)).symm, ((yi_c c4).trans l6).trans (nq 11 (by omega) (by omega)).symm, ((yi_c c4).trans l7).trans (nq 5 (by omega) (by omega)).symm⟩, (n + dc) :: Q1, t5.q, ?_, by simp only [List.length_cons]; omega, fun i hi' => ?_⟩
    · rw [nq 1 (by omega) (by omega)] at hj
      rw [nq _ (by omega) (by omega)]
      show yli g2 1 (E' t 1) j = _
      rw [yli_c c1]; exact p3 j hj
    · rw [nq _ (by omega) (by omega)]
      show yli g2 1 (E' t 3) j = _
      rw [yli_c (ek 3 (by omega))]; exact h11 j hj
    · rw [nq 1 (by omega) (by omega)] at hn
      rw [nq _ (by omega) (by omega)]
      exact hz j hj hn
    · show N' (zI t 12) = _
      rw [show N' (zI t 12) = _ from pSv_12, lQ, List.length_cons, s3, List.length_take]
      by_cases c : 20 ≤ Q.length
      · rw [if_pos ((i_le (by omega) (by omega)).mpr c), show min 19 Q.length + 1 = Q.length by omega]
      · rw [if_neg (fun z => c ((i_le (by omega) (by omega)).mp z)), i_add, show min 19 Q.length = Q.length by omega]
    · cases i with
      | zero =>
        refine ⟨t9, fun w hw => ?_⟩
        show yi g2 37 w (n + dc) = N' (zI t (52 + 4 * 0 + w))
        rw [show 52 + 4 * 0 + w = 52 + w by omega, show N' (zI t (52 + w)) = _ from pSv_0 hw]
        rcases (show w = 0 ∨ w = 1 ∨ w = 2 ∨ w = 3 by omega) with rfl | rfl | rfl | rfl
        · rw [if_pos rfl]; exact u0
        · rw [if_neg (by omega), if_pos rfl]; exact u1
        · rw [if_neg (by omega), if_neg (by omega), if_pos rfl]; exact u2
        · rw [if_neg (by omega), if_neg (by omega), if_neg (by omega)]; exact u3
      | succ i =>
        have hi1 : i < Q1.length := by simp only [List.length_cons] at hi'; omega
        have hiq : i < Q.length := by rw [s3, List.length_take] at hi1; omega
        have eq1 : Q1[i] = Q[i] := by simp only [s3, List.getElem_take]
        show yO g2 37 Q1[i] ∧ _
        have yo := (S.2.2 i hiq).1
        have el : g2 Q1[i] = g Q[i] := by
          rw [eq1]
          exact fr _ (yO_at yo) (yO_ne yo (yO_of _ _ _ Dc.1) (by omega)) (yOA_ne yo (yA_of _ _ _ Dc.2.2.1))
        rw [eq1] at el
        refine ⟨by rw [eq1]; exact (yO_c el).mpr yo, fun w hw => ?_⟩
        show yi g2 37 w Q1[i] = _
        rw [eq1, yi_c el, (S.2.2 i hiq).2 w hw, show N' (zI t (52 + 4 * (i + 1) + w)) = _ from pSv_s (by omega) hw]
  have n1 : ∀ j, j < 592 → (∀ w, w < 132 → j ≠ zI t w) → N' j = Nn dep j := fun j hj hw => pSv_ne (hw 12 (by omega)) (by
    by_cases c : j < zI t 52 ∨ zI t 131 < j
    · exact c
    · exfalso
      exact hw (j - zI t 0) (by unfold zI at *; omega) (by unfold zI at *; omega))
  have og : okG N' := fun s hs => by
    have e : N' 0 = Nn dep 0 := n1 0 (by omega) (fun w _ => by unfold zI; omega)
    rw [e] at hs
    by_cases c : s = t
    · rw [c, nq 6 (by omega) (by omega)]; exact H.og t ht
    · have := (kw_12 W hs).2.2
      rw [n1 _ (by unfold zI; omega) (fun w hw => zI_ne2 c (by omega) hw)]; exact H.og s hs
  have y7 : ∀ k, k < 7 → Y' k = E' t k ∨ (n + dc ≤ Y' k ∧ Y' k < n + dc + dc2) := by
    intro k hk
    show (if k = 6 then e' else E' t k) = _ ∨ _ ≤ (if k = 6 then e' else E' t k) ∧ (if k = 6 then e' else E' t k) < _
    by_cases c : k = 6
    · rw [if_pos c, c]
      rcases t6 with z | z
      · exact Or.inl z
      · exact Or.inr (by omega)
    · rw [if_neg c]; exact Or.inl rfl
  have yin : ∀ j k, j < 7 → k < 7 → Y' j = Y' k → j = k := by
    intro j k hj hk
    show (if j = 6 then e' else E' t j) = (if k = 6 then e' else E' t k) → _
    have bj := Fr.1 t j ht hj
    have bk := Fr.1 t k ht hk
    by_cases c : j = 6
    · by_cases c' : k = 6
      · omega
      · rw [if_pos c, if_neg c']
        intro z
        rcases t6 with y | y
        · rw [y] at z; have := inj 6 k (by omega) hk z; omega
        · omega
    · by_cases c' : k = 6
      · rw [if_neg c, if_pos c']
        intro z
        rcases t6 with y | y
        · rw [y] at z; have := inj j 6 hj (by omega) z; omega
        · omega
      · rw [if_neg c, if_neg c']
        exact inj j k hj hk
  have R' := R.set (g' := g2) (m' := n + dc + dc2) (Y' := Y') (N' := N') ht' (by omega) tb (by rw [eE]; exact fun q hq hk => fr q hq (hk 5 (by omega)) (hk 6 (by omega))) KK (by rw [eE]; rfl) (by rw [eE]; exact y7) yin (by rw [e0]; exact n1) (by rw [e0]; exact fun w hw hcc => nq w (by omega) (by omega)) og
  rw [eE] at R'
  refine ⟨g2, dc + dc2, ds + ds2, ?_, by omega, by omega, n, Dh', (fun j => if j = t then Y' else E' j), D', T', B dep, M dep, Nat.le_refl _, ?_, fun k hk => ?_, fun k => ?_, fun q hq a1 a2 a3 => ?_⟩
  · rw [s1, t1]
    have pe : pEst N' t 0 = (((((Nn dep (zI t 4)).toInt64 + (1 : Int64)) * (v.toInt64 + (1 : Int64))) / (r.toInt64 + (1 : Int64))) - (1 : Int64)) := by
      unfold pEst pSg
      rw [show N' (zI t (52 + 4 * 0 + 1)) = _ from pSv_0 (w := 1) (by omega), show N' (zI t (52 + 4 * 0 + 2)) = _ from pSv_0 (w := 2) (by omega), show N' (zI t (52 + 4 * 0 + 3)) = _ from pSv_0 (w := 3) (by omega)]
      rfl
    rw [show pEst (pSurvey (Nn dep) t (Nn dep (zI t 4)) v r) t 0 = _ from pe]
    rfl
  · rw [← Nat.add_assoc]
    exact R'.cgE (fun i hi' => shF_up hi') (fun i hi' => shF_up hi') (fun _ _ => rfl) (fun _ _ => rfl) (fun _ _ => rfl) (fun _ _ => rfl) (fun _ _ => rfl)
  · have ex : g2 x = g x := fr x (yO_at oX) (by have := (Fr.1 t 5 ht (by omega)).1; have := R.2.1.1; omega) (by have := (Fr.1 t 6 ht (by omega)).1; have := R.2.1.1; omega)
    rw [yr_c ex]; exact r5 k hk
  · have ex : g2 x = g x := fr x (yO_at oX) (by have := (Fr.1 t 5 ht (by omega)).1; have := R.2.1.1; omega) (by have := (Fr.1 t 6 ht (by omega)).1; have := R.2.1.1; omega)
    rw [yi_c ex]; exact r6 k
  · have ql := xbd_lt hb hq
    rw [fr q (hd_at (r8 q hq) hq) (by have := (Fr.1 t 5 ht (by omega)).1; omega) (by have := (Fr.1 t 6 ht (by omega)).1; omega)]
    exact r7 q hq a1 a2 a3
end SV
