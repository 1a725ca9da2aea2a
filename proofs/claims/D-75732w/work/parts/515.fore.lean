/-! part 515: the component: forecasts -/
theorem j_of {v : Int64} (h : 0 ≤ v.toInt) : v = Int64.ofNat v.toInt.toNat := by
  have hl : v.toInt < 9223372036854775808 := Int64.toInt_lt v
  rw [← Int64.toInt_inj, j_toInt (by omega)]
  omega
theorem kB_nat {N : Nat → Int32} {s o : Nat} (hb : bN N s) (ho : o ≤ 12) : ∃ c, kB (rC N s) (rV N s) (rF N s) o (N (zI s 3)) = Int32.ofNat c ∧ c ≤ 1000000 := by
  obtain ⟨B, hB, hB2⟩ := jsum_nat (f := kBear (rC N s) (rV N s) (rF N s)) (M := 9999000000) o 1 (fun j h1 h2 => kBear_nat hb h1 (by omega))
  have hB3 : B ≤ 12 * 9999000000 := Nat.le_trans hB2 (Nat.mul_le_mul_right _ ho)
  have h1000 : (1000 : Int64) = Int64.ofNat 1000 := rfl
  have hm : (1000000 : Int64).toInt = 1000000 := by decide
  have z0 : (0 : Int64).toInt = 0 := by decide
  have key : 0 ≤ (kBorn (jsum (kBear (rC N s) (rV N s) (rF N s)) 1 o) (N (zI s 3)) (kU (rC N s) (rV N s) o)).toInt ∧ (kBorn (jsum (kBear (rC N s) (rV N s) (rF N s)) 1 o) (N (zI s 3)) (kU (rC N s) (rV N s) o)).toInt ≤ 1000000 := by
    rw [hB]
    unfold kBorn
    split
    · rw [jmin_int, hm, h1000, j_div (by omega) (by decide), j_toInt (by omega)]
      omega
    · rw [jmax_int, jmin_int, jmin_int, hm, z0, h1000, j_div (by omega) (by decide), j_toInt (by omega)]
      omega
  refine ⟨(kBorn (jsum (kBear (rC N s) (rV N s) (rF N s)) 1 o) (N (zI s 3)) (kU (rC N s) (rV N s) o)).toInt.toNat, ?_, by omega⟩
  unfold kB
  rw [← j_i32, ← j_of key.1]
/-- what a year doesn't change -/
def sta (N M : Nat → Int32) (s : Nat) : Prop := M (zI s 1) = N (zI s 1) ∧ M (zI s 2) = N (zI s 2) ∧ M (zI s 3) = N (zI s 3) ∧ ∀ j, j < 26 → M (zI s (13 + j)) = N (zI s (13 + j))
theorem sta.refl {N : Nat → Int32} {s : Nat} : sta N N s := ⟨rfl, rfl, rfl, fun _ _ => rfl⟩
theorem sta.trans {N M L : Nat → Int32} {s : Nat} (a : sta N M s) (b : sta M L s) : sta N L s := ⟨b.1.trans a.1, b.2.1.trans a.2.1, b.2.2.1.trans a.2.2.1, fun j hj => (b.2.2.2 j hj).trans (a.2.2.2 j hj)⟩
theorem pAges_st {N : Nat → Int32} {s o j : Nat} (ho : o ≤ 12) (h4 : j ≠ 4) (h8 : j ≠ 8) (h9 : j ≠ 9) (hj : j < 39) : pAges N s o (zI s j) = N (zI s j) := by
  unfold pAges pAgD
  rw [va_up_ne _ _ (by unfold zI; omega), va_up_ne _ _ (by unfold zI; omega), pAgC_ne (by unfold zI; omega) (by unfold zI; omega) (Or.inl (by unfold zI; omega)) ho]
theorem pAges_sta {N : Nat → Int32} {s o : Nat} (ho : o ≤ 12) : sta N (pAges N s o) s := ⟨pAges_st ho (by omega) (by omega) (by omega) (by omega), pAges_st ho (by omega) (by omega) (by omega) (by omega), pAges_st ho (by omega) (by omega) (by omega) (by omega), fun j hj => pAges_st ho (by omega) (by omega) (by omega) (by omega)⟩
/-- cohorts above the oldest age are empty -/
def zN (N : Nat → Int32) (s : Nat) : Prop := ∀ j, j < 13 → nn (N (zI s 1)) < j → N (zI s (39 + j)) = Int32.ofNat 0
theorem bN.ages {N : Nat → Int32} {s o : Nat} (hb : bN N s) (ho : o ≤ 12) : bN (pAges N s o) s := by
  have t := pAges_sta (N := N) (s := s) ho
  refine ⟨fun j hj => ⟨?_, ?_, ?_⟩, ?_⟩
  · rw [← kC_ages hb ho hj]
    by_cases c : j = 0
    · subst c
      obtain ⟨c, e, hc⟩ := kB_nat hb ho
      unfold kC
      rw [va_up_self, e]
      exact ⟨nN_of _ (by omega), by rw [nn_of (by omega)]; exact hc⟩
    · unfold kC
      rw [va_up_ne _ _ c]
      unfold kSh
      by_cases d : 0 < j ∧ j ≤ o
      · rw [if_pos d]
        obtain ⟨c, e, hc⟩ := kG_nat hb d.1 (by omega)
        unfold kG at e
        rw [e]
        exact ⟨nN_of _ (by omega), by rw [nn_of (by omega)]; exact hc⟩
      · rw [if_neg d]
        exact (hb.1 j hj).1
  · rw [t.2.2.2 j (by omega)]
    exact (hb.1 j hj).2.1
  · have := t.2.2.2 (13 + j) (by omega)
    rw [show 13 + (13 + j) = 26 + j by omega] at this
    rw [this]
    exact (hb.1 j hj).2.2
  · rw [t.2.2.1]
    exact hb.2
theorem zN.ages {N : Nat → Int32} {s o : Nat} (hz : zN N s) (ho : o ≤ 12) (hoN : nn (N (zI s 1)) = o) : zN (pAges N s o) s := by
  intro j hj h1
  rw [pAges_st ho (by omega) (by omega) (by omega) (by omega)] at h1
  unfold pAges pAgD
  rw [va_up_ne _ _ (by unfold zI; omega), va_up_ne _ _ (by unfold zI; omega), pAgC_coh (by omega) (by omega)]
  unfold kSh rC
  rw [if_neg (by omega)]
  exact hz j hj h1
/-- f is the row of cohorts -/
def fN (f N : Nat → Int32) (s : Nat) : Prop := ∀ j, j < 13 → f j = N (zI s (39 + j))
theorem kC_congr {f f' v v' w w' : Nat → Int32} {o : Nat} {room : Int32} (ho : o ≤ 12) (hf : ∀ j, j < 13 → f j = f' j) (hv : ∀ j, j ≤ o → v j = v' j) (hw : ∀ j, j < 13 → w j = w' j) : ∀ j, j < 13 → kC f v w o room j = kC f' v' w' o room j := by
  have hg : ∀ j, 1 ≤ j → j ≤ o → kG f v j = kG f' v' j := fun j h1 h2 => by unfold kG; rw [hf (j - 1) (by omega), hv (j - 1) (by omega)]
  have hu : kU f v o = kU f' v' o := isum_congr _ _ (fun j h1 h2 => hg j h1 (by omega))
  have hB : kB f v w o room = kB f' v' w' o room := by
    unfold kB
    rw [hu, jsum_congr (f := kBear f v w) (g := kBear f' v' w') _ _ (fun j h1 h2 => by unfold kBear; rw [hg j h1 (by omega), hw j (by omega)])]
  intro j hj
  unfold kC
  by_cases c : j = 0
  · subst c
    rw [va_up_self, va_up_self, hB]
  · rw [va_up_ne _ _ c, va_up_ne _ _ c]
    unfold kSh
    by_cases d : 0 < j ∧ j ≤ o
    · rw [if_pos d, if_pos d]
      exact hg j d.1 d.2
    · rw [if_neg d, if_neg d]
      exact hf j hj
section KF
variable {Γ : Nat → Option Nat} {h : xH} {n st : Nat} {Y : Nat → Nat} {p fe s : Nat} {N : Nat → Int32}
/-- what is old lies below st -/
theorem xbd_lt {m a : Nat} (hb : xbd m h) (ha : h a ≠ none) : a < m := Nat.lt_of_not_le (fun q => ha (hb a q))
theorem k_stInit {m : Nat} : fX10_init m (some p) Γ (xupd h m (true, .inr (24, [.null, .null, .int 0, .int 0]))) (m + 1) = some (.inl (), kS h m (m + 1) p (fun _ => 0) 0 0, 1, 13) := by
  have c1 : ¬ (13 : Int32) < 0 ∧ (13 : Int32).toNatClampNeg ≤ 1000000 := by decide
  have e13 : (13 : Int32).toNatClampNeg = 13 := by decide
  have d : m ≠ m + 1 := by omega
  have e1 : ∀ (u : Value), xput 24 1 (some m) u Γ (xupd (xupd h m (true, .inr (24, [.null, .null, .int 0, .int 0]))) (m + 1) (true, .inl (1, 13, .inl (fun _ => 0)))) (m + 1 + 1) = some (.inl (), xupd (xupd h m (true, .inr (24, [.null, u, .int 0, .int 0]))) (m + 1) (true, .inl (1, 13, .inl (fun _ => 0))), 0, 0) := by
    intro u
    unfold xput
    simp only [up_ne d, up_self]
    rw [if_pos ⟨trivial, by simp⟩, up_comm d.symm, up_up]
    rfl
  have e2 : ∀ (u v : Value), xput 24 0 (some m) v Γ (xupd (xupd h m (true, .inr (24, [.null, u, .int 0, .int 0]))) (m + 1) (true, .inl (1, 13, .inl (fun _ => 0)))) (m + 1 + 1) = some (.inl (), xupd (xupd h m (true, .inr (24, [v, u, .int 0, .int 0]))) (m + 1) (true, .inl (1, 13, .inl (fun _ => 0))), 0, 0) := by
    intro u v
    unfold xput
    simp only [up_ne d, up_self]
    rw [if_pos ⟨trivial, by simp⟩, up_comm d.symm, up_up]
    rfl
  have e0 : ∀ (g : xH) (k : Nat), xnewA 1 (fun N => (N, .inl (fun _ => 0))) (13 : Int32) Γ g k = some (.inl k, xupd g k (true, .inl (1, 13, .inl (fun _ => 0))), 1, 13) := by
    intro g k
    unfold xnewA
    rw [if_pos c1, e13]
  simp only [fX10_init, xbind, e0, e1, e2, xpure, Nat.add_zero]
  rfl
theorem k_become {co : Nat} {f : Nat → Int32} {u b : Int32} (d : st ≠ co) (H : kHd h Y p N s) (a1 : Y 2 ≠ st) (a2 : Y 2 ≠ co) (a3 : Y 3 ≠ st) (a4 : Y 3 ≠ co) : ∃ g, fX10_become st (some (Y 2)) Γ (kS h st co p f u b) n = some (.inl (), kS h st co p g u b, 0, 0) ∧ fN g N s := by
  have e1 := ks_o (h := h) (p := p) (f := f) (u := u) (b := b) a1 a2
  have e2 := ks_o (h := h) (p := p) (f := f) (u := u) (b := b) a3 a4
  have S := H.stk
  have g1 : xgR 24 1 (some (Y 2)) Γ (kS h st co p f u b) n = some (.inl (some (Y 3)), kS h st co p f u b, 0, 0) := by
    rw [e_gR ((yO_c e1).mpr (yO_of _ _ _ S.1)) kn24_1, yr_c e1, S.2.2.1]
  obtain ⟨M, x, hc, hk, hl, hx⟩ := yarrB S.2.2.2.1
  rw [S.2.2.2.2] at hl
  subst hl
  have hx2 : x = .inl (yli h 1 (Y 3)) := by
    unfold yli
    rw [hx]
    revert hk
    rcases x with f | f | f | f | f <;> simp [ykc, ytk, ycI]
  rw [hx2] at hc
  refine ⟨va_cpy (yli h 1 (Y 3)) f 0 0 13, ?_, fun j hj => ?_⟩
  · have c0 : (0 : Int32).toNatClampNeg = 0 := by decide
    have c13 : (13 : Int32).toNatClampNeg = 13 := by decide
    have cp : xcpI 1 .int (some (Y 3)) (0 : Int32) (some co) (0 : Int32) (13 : Int32) Γ (kS h st co p f u b) n = some (.inl (), kS h st co p (va_cpy (yli h 1 (Y 3)) f 0 0 13) u b, 0, 0) := by
      unfold xcpI xarr
      simp only [e2, hc, ks_2, c0, c13]
      rw [if_pos ⟨trivial, trivial, by decide, by decide, by decide, by decide, by decide, by rw [List.all_eq_true]; exact fun _ _ => rfl⟩]
      unfold kS
      rw [up_up]
    simp only [fX10_become, xbind, xpure, g1, ks_g1 d, cp, Nat.add_zero]
  · unfold va_cpy
    rw [if_pos (by omega), Nat.zero_add, Nat.sub_zero]
    exact H.2.2.2.2.2.2.2.2.2.2.2.1 j hj
theorem k_thought (H : kHd h Y p N s) (hb : xbd n h) : ∃ g u b, fX1_thought (some (Y 0)) Γ h n = some (.inl (some n), kS h n (n + 1) p g u b, 2, 17) ∧ fN g N s := by
  have hs := hsub_up (h := h) (n := n) (c := (true, .inr (24, [.null, .null, .int 0, .int 0]))) (hb n (Nat.le_refl _))
  have lt := fun k hk => xbd_lt hb (H.at k hk)
  have l0 := lt 0 (by omega)
  have l2 := lt 2 (by omega)
  have l3 := lt 3 (by omega)
  obtain ⟨g, e1, f1⟩ := k_become (Γ := Γ) (n := n + 2) (st := n) (co := n + 1) (f := fun _ => 0) (u := 0) (b := 0) (by omega) H (by omega) (by omega) (by omega) (by omega)
  have e2 : xgR 19 2 (some (Y 0)) Γ (kS h n (n + 1) p (fun _ => 0) 0 0) (n + 2) = some (.inl (some (Y 2)), kS h n (n + 1) p (fun _ => 0) 0 0, 0, 0) := by
    have e := ks_o (h := h) (p := p) (f := fun _ => 0) (u := 0) (b := 0) (show Y 0 ≠ n by omega) (show Y 0 ≠ n + 1 by omega)
    rw [e_gR ((yO_c e).mpr (yO_of _ _ _ H.1)) kn19_2, yr_c e, H.2.2.2.1]
  refine ⟨g, 0, 0, ?_, f1⟩
  simp only [fX1_thought, xbind, xnew, kh_0 (H.mono hs), k_stInit, Nat.add_assoc, Nat.reduceAdd, e2, ks_sel (show n ≠ n + 1 by omega), e1, xpure, Nat.add_zero]
/-- one year of a stock that is thought -/
theorem k_year {co : Nat} {f M : Nat → Int32} {u b : Int32} (d : st ≠ co) (H : kHd h Y p N s) (hp : kSpN h p fe N s) (ho : nn (N (zI s 1)) ≤ 12) (old : ∀ a, h a ≠ none → a ≠ st ∧ a ≠ co) (hs : sta N M s) (hbM : bN M s) (hf : fN f M s) : ∃ f' u' b', fX10_close st (some (Y 1)) (N (zI s 3)) Γ (kS h st co p f u b) n = some (.inl (), kS h st co p f' u' b', 0, 0) ∧ fN f' (pAges M s (nn (N (zI s 1)))) s := by
  have sv := H.2.2.2.2.2.2.2.2.2.1
  have o1 := old _ (yO_at hp.1.1)
  have o2 := old _ (yA_at hp.1.2.2.2.2.1)
  have o3 := old _ (H.at 1 (by omega))
  have e1 := k_close (Γ := Γ) (n := n) (f := f) (u := u) (b := b) (room := N (zI s 3)) d hp.1 (yA_of _ _ _ sv.1) sv.2.1 o1.1 o1.2 o2.1 o2.2 o3.1 o3.2
  refine ⟨_, _, _, e1, fun j hj => ?_⟩
  rw [← kC_ages hbM ho hj, hs.2.2.1]
  refine kC_congr ho (fun j hj => hf j hj) (fun j hj => ?_) (fun j hj => ?_) j hj
  · rw [sv.2.2 j hj]
    exact (hs.2.2.2 j (by omega)).symm
  · rw [hp.2 j hj]
    have := hs.2.2.2 (13 + j) (by omega)
    rw [show 13 + (13 + j) = 26 + j by omega] at this
    exact this.symm
/-- on a heap with a stock that is thought, old things are as they were -/
theorem k_old {co : Nat} {f : Nat → Int32} {u b : Int32} (old : ∀ a, h a ≠ none → a ≠ st ∧ a ≠ co) : hsub h (kS h st co p f u b) := fun a ha => ks_o (old a ha).1 (old a ha).2
theorem k_tot {co : Nat} {f M : Nat → Int32} {u b : Int32} (d : st ≠ co) (hf : fN f M s) (hz : zN M s) (h12 : nn (M (zI s 1)) ≤ 12) : xsel (some st) [(24, fun z => fX10_total z)] Γ (kS h st co p f u b) n = some (.inl (pTot M s (nn (M (zI s 1)))), kS h st co p f u b, 0, 0) := by
  rw [ks_sel d, k_total (ks_St d), ks_li, show 13 = (nn (M (zI s 1)) + 1) + (12 - nn (M (zI s 1))) by omega, isum_app, isum_congr (f := f) (g := fun x => M (zI s (39 + x))) _ _ (fun j _ hj => hf j (by omega)), isum_zero (12 - nn (M (zI s 1))) _ (fun j h1 h2 => by rw [hf j (by omega)]; exact hz j (by omega) (by omega)), i_add0]
  rfl
theorem k_fore10 {co la y : Nat} (d : st ≠ co) (H : kHd h Y p N s) (hp : kSpN h p fe N s) (ho : nn (N (zI s 1)) ≤ 12) (old : ∀ a, h a ≠ none → a ≠ st ∧ a ≠ co) (hla : yO h 1010 la) (hy : y ≤ 50) : ∀ (k x fu : Nat) (M f : Nat → Int32) (u b : Int32), x + k = y → k < fu → sta N M s → bN M s → zN M s → fN f M s →
    ∃ f' u' b', fX1_foresee_p3 fu (some (Y 0)) (some st) (Int32.ofNat y) (some la) (Int32.ofNat x) Γ (kS h st co p f u b) n = some (.inl (Int32.ofNat y), kS h st co p f' u' b', 0, 0) ∧ fN f' (pGoes s (nn (N (zI s 1))) k M) s ∧ sta N (pGoes s (nn (N (zI s 1))) k M) s ∧ zN (pGoes s (nn (N (zI s 1))) k M) s := by
  intro k
  induction k with
  | zero =>
    intro x fu M f u b hx hfu hs hbM hz hf
    obtain ⟨fu, rfl⟩ : ∃ g, fu = g + 1 := ⟨fu - 1, by omega⟩
    obtain rfl : x = y := by omega
    have c1 : Int32.ofNat x ≤ Int32.ofNat x := by rw [i_le (by omega) (by omega)]; omega
    refine ⟨f, u, b, ?_, hf, hs, hz⟩
    rw [fX1_foresee_p3]
    simp only [if_pos c1, xpure]
  | succ k ih =>
    intro x fu M f u b hx hfu hs hbM hz hf
    obtain ⟨fu, rfl⟩ : ∃ g, fu = g + 1 := ⟨fu - 1, by omega⟩
    have c1 : ¬ Int32.ofNat y ≤ Int32.ofNat x := by rw [i_le (by omega) (by omega)]; omega
    have hsub := k_old (p := p) (f := f) (u := u) (b := b) old
    have hl := (yO_c (hsub _ (yO_at hla))).mpr hla
    obtain ⟨f1, u1, b1, e1, hf1⟩ := k_year (Γ := Γ) (n := n) (u := u) (b := b) d H hp ho old hs hbM hf
    obtain ⟨f2, u2, b2, e2, r2⟩ := ih (x + 1) fu (pAges M s (nn (N (zI s 1)))) f1 u1 b1 (by omega) (by omega) (hs.trans (pAges_sta ho)) (hbM.ages ho) (hz.ages ho (by rw [hs.1])) hf1
    refine ⟨f2, u2, b2, ?_, r2⟩
    have Hm := H.mono hsub
    rw [fX1_foresee_p3]
    simp only [if_neg c1, xbind, xlet, e_sel hl, fL_10, fX1_lambda_after_10, xpure, i_ofNat, x_ret1, if_neg b2i_1, kh_1 Hm, kh_3 Hm, ks_sel d, e1, i_add, e2, Nat.add_zero]
theorem k_after {la y : Nat} (H : kHd h Y p N s) (hp : kSpN h p fe N s) (hb : xbd n h) (hbN : bN N s) (hz : zN N s) (hla : yO h 1010 la) (hΓ : Γ 210 = some la) (hy : y ≤ 50) : ∃ f' u' b', fX1_after (some (Y 0)) (Int32.ofNat y) Γ h n = some (.inl (some n), kS h n (n + 1) p f' u' b', 2, 17) ∧ fN f' (pGoes s (nn (N (zI s 1))) y N) s ∧ sta N (pGoes s (nn (N (zI s 1))) y N) s ∧ zN (pGoes s (nn (N (zI s 1))) y N) s := by
  have ho := hp.1.2.2.2.2.2.2.1
  obtain ⟨g, u, b, e1, f1⟩ := k_thought (Γ := Γ) H hb
  obtain ⟨f2, u2, b2, e2, r2⟩ := k_fore10 (Γ := Γ) (n := n + 2) (st := n) (co := n + 1) (by omega) H hp ho (fun a ha => by have := xbd_lt hb ha; omega) hla hy y 0 xFU N g u b (by omega) (by unfold xFU; omega) sta.refl hbN hz f1
  refine ⟨f2, u2, b2, ?_, r2⟩
  simp only [fX1_after, xbind, e1, xcon, hΓ, fX1_foresee, xlet, i_ofNat, e2, xpure, Nat.add_zero]
end KF
