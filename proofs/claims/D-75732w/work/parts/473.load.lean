/-! part 473: the twin: load -/
def pMix (F G : Nat → Int32) (k : Nat) : Nat → Int32 := fun j => if j < k then G j else F j
theorem pMix_step {F G : Nat → Int32} {k : Nat} : va_up (pMix F G k) k (G k) = pMix F G (k + 1) := by
  funext j
  rw [va_ap]
  unfold pMix
  by_cases hj : j = k
  · rw [if_pos hj, if_pos (by omega), hj]
  · rw [if_neg hj]
    by_cases hc : j < k
    · rw [if_pos hc, if_pos (by omega)]
    · rw [if_neg hc, if_neg (by omega)]
theorem pMix_0 {F G : Nat → Int32} : pMix F G 0 = F := by
  funext j
  unfold pMix
  rw [if_neg (by omega)]
section TP13
variable {Γ : Nat → Option Nat} {m : Nat} {h : xH} {T : Nat → Int32} {len : Nat}
theorem t_load_p143 {n : Nat} (TS : gTs) : ∀ (k s fu : Nat) (I : Nat → Int32) (A : Nat → Nat → Int32) (Z : Nat → Int64), s + k = nn (A 1 0) → k < fu → okN (A 1) → (∀ t, t < nn (A 1 0) → okF (A 5) t (TS t)) → ∃ J Z', fX3_load_p143 fu m (Int32.ofNat s) Γ (tw m I A Z h) n = some (.inl (A 1 0), tw m J (va_up A 1 (pOpenF TS s k (A 1))) Z' h, 0, 0) ∧ ∀ j, j ≠ 9 → J j = I j := by
  intro k
  induction k with
  | zero =>
    intro s fu I A Z hs hfu ok hF
    obtain ⟨fu, rfl⟩ : ∃ g, fu = g + 1 := ⟨fu - 1, by omega⟩
    have a0 := ok.1
    have a4 := ok.2.1
    unfold nN at a0
    have c1 : A 1 0 ≤ Int32.ofNat s := by rw [a0, i_le (by omega) (by omega)]; omega
    refine ⟨I, Z, ?_, fun _ _ => rfl⟩
    rw [fX3_load_p143, pOpenF, va_id]
    simp (maxDischargeDepth := 9) only [xbind, xlet, xpure, tw_sel, tg_0, tg_4, tg_9, tg_12, tg_13, tg_14, tg_15, tg_16, tg_17, tg_18, tg_19, tg_20, tg_21, tg_24, tr_1, tr_2, tr_3, tr_5, tr_6, tr_7, tr_8, tr_10, tr_11, tr_22, tr_23, tp_0, tp_4, tp_9, tp_12, tp_13, tp_14, tp_15, tp_16, tp_17, tp_18, tp_19, tp_20, tp_21, tp_24, va_up_self, va_up_ne, va_uu, i_ofNat, i_add, i_mul, Nat.add_zero, Nat.zero_add, reduceIte, if_true, if_false, Nat.reduceEqDiff, ne_eq, not_false_eq_true, Nat.reduceEqDiff, not_true_eq_false, tl_1 (show 0 < 592 by omega), c1]
  | succ k ih =>
    intro s fu I A Z hs hfu ok hF
    obtain ⟨fu, rfl⟩ : ∃ g, fu = g + 1 := ⟨fu - 1, by omega⟩
    have a0 := ok.1
    have a4 := ok.2.1
    unfold nN at a0
    have c1 : ¬ A 1 0 ≤ Int32.ofNat s := by rw [a0, i_le (by omega) (by omega)]; omega
    obtain ⟨Z1, v9, e1⟩ := t_opens (Γ := Γ) (n := n) (m := m) (I := I) (A := A) (S := Z) (h := h) (s := s) (ts := TS s) (by omega) (ok.2.2.2.2.2.2.2.2.1 s (by omega)) (hF s (by omega))
    have z0 : pOpen (A 1) s (TS s) 0 = A 1 0 := pOpen_ne (fun k h1 h2 => by unfold zI; omega)
    obtain ⟨J, Z2, e2, o2⟩ := ih (s + 1) fu (va_up I 9 v9) (va_up A 1 (pOpen (A 1) s (TS s))) Z1 (by rw [va_up_self, z0]; omega) (by omega) (by rw [va_up_self]; exact ok.opn) (by rw [va_up_self, va_up_ne _ _ (by decide), z0]; exact hF)
    rw [va_uu, va_up_self, z0] at e2
    refine ⟨J, Z2, ?_, fun j hj => by rw [o2 j hj, va_up_ne _ _ hj]⟩
    rw [fX3_load_p143, pOpenF]
    simp (maxDischargeDepth := 9) only [xbind, xlet, xpure, tw_sel, tg_0, tg_4, tg_9, tg_12, tg_13, tg_14, tg_15, tg_16, tg_17, tg_18, tg_19, tg_20, tg_21, tg_24, tr_1, tr_2, tr_3, tr_5, tr_6, tr_7, tr_8, tr_10, tr_11, tr_22, tr_23, tp_0, tp_4, tp_9, tp_12, tp_13, tp_14, tp_15, tp_16, tp_17, tp_18, tp_19, tp_20, tp_21, tp_24, va_up_self, va_up_ne, va_uu, i_ofNat, i_add, i_mul, Nat.add_zero, Nat.zero_add, reduceIte, if_true, if_false, Nat.reduceEqDiff, ne_eq, not_false_eq_true, Nat.reduceEqDiff, not_true_eq_false, tl_1 (show 0 < 592 by omega), c1, e1, e2]
theorem t_load_p116 {n : Nat} {I : Nat → Int32} {A : Nat → Nat → Int32} {Z : Nat → Int64} : ∀ (r k fu : Nat), k + r = 5604 → r < fu → fX3_load_p116 fu m (Int32.ofNat k) Γ (tw m I (va_up A 5 (pMix (A 5) (A 6) k)) Z h) n = fX3_load_p143 xFU m (Int32.ofNat 0) Γ (tw m I (va_up A 5 (pMix (A 5) (A 6) 5604)) Z h) n := by
  intro r
  induction r with
  | zero =>
    intro k fu hk hf
    obtain ⟨fu, rfl⟩ : ∃ g, fu = g + 1 := ⟨fu - 1, by omega⟩
    obtain rfl : k = 5604 := by omega
    have c1 : Int32.ofNat 5604 ≤ Int32.ofNat 5604 := by decide
    rw [fX3_load_p116]
    simp (maxDischargeDepth := 9) only [xbind, xlet, xpure, tw_sel, tg_0, tg_4, tg_9, tg_12, tg_13, tg_14, tg_15, tg_16, tg_17, tg_18, tg_19, tg_20, tg_21, tg_24, tr_1, tr_2, tr_3, tr_5, tr_6, tr_7, tr_8, tr_10, tr_11, tr_22, tr_23, tp_0, tp_4, tp_9, tp_12, tp_13, tp_14, tp_15, tp_16, tp_17, tp_18, tp_19, tp_20, tp_21, tp_24, va_up_self, va_up_ne, va_uu, i_ofNat, i_add, i_mul, Nat.add_zero, Nat.zero_add, reduceIte, if_true, if_false, Nat.reduceEqDiff, ne_eq, not_false_eq_true, Nat.reduceEqDiff, not_true_eq_false, c1]
  | succ r ih =>
    intro k fu hk hf
    obtain ⟨fu, rfl⟩ : ∃ g, fu = g + 1 := ⟨fu - 1, by omega⟩
    have c1 : ¬ Int32.ofNat 5604 ≤ Int32.ofNat k := by rw [i_le (by omega) (by omega)]; omega
    have e1 := ih (k + 1) fu (by omega) (by omega)
    rw [← e1, fX3_load_p116]
    simp (maxDischargeDepth := 9) only [xbind, xlet, xpure, tw_sel, tg_0, tg_4, tg_9, tg_12, tg_13, tg_14, tg_15, tg_16, tg_17, tg_18, tg_19, tg_20, tg_21, tg_24, tr_1, tr_2, tr_3, tr_5, tr_6, tr_7, tr_8, tr_10, tr_11, tr_22, tr_23, tp_0, tp_4, tp_9, tp_12, tp_13, tp_14, tp_15, tp_16, tp_17, tp_18, tp_19, tp_20, tp_21, tp_24, va_up_self, va_up_ne, va_uu, i_ofNat, i_add, i_mul, Nat.add_zero, Nat.zero_add, reduceIte, if_true, if_false, Nat.reduceEqDiff, ne_eq, not_false_eq_true, Nat.reduceEqDiff, not_true_eq_false, c1, tl_6 (show k < 5604 by omega), ts_5 (show k < 5604 by omega), pMix_step]
    cases fX3_load_p116 fu m (Int32.ofNat (k + 1)) Γ (tw m I (va_up A 5 (pMix (A 5) (A 6) (k + 1))) Z h) n <;> rfl
theorem t_load_p50 {n : Nat} (hs : tStr Γ m h) (l1 : Int32) : ∀ (g p fu : Nat) (I : Nat → Int32) (A : Nat → Nat → Int32) (Z : Nat → Int64) (N : Nat → Int32) (TS : gTs), len < p + g → g < fu → tPs T len I A p → gBl T len p = p → I 14 = Int32.ofNat p → rdN N TS → A 1 = N → (∀ s, s < nn (N 0) → tFm (A 6) (1401 * s) (TS s)) →
    ∃ J B, fX3_load_p50 fu m l1 Γ (tw m I A Z h) n = fX3_load_p75 m l1 Γ (tw m J B Z h) n ∧ (∀ j, j ≠ 1 → j ≠ 6 → B j = A j) ∧ (match gParse T len g p N TS with
      | .inl e => e.1 ≤ len ∧ tEl I J e
      | .inr (p2, N2, TS2) => tOl I J p2 ∧ rdN N2 TS2 ∧ B 1 = N2 ∧ ∀ s, s < nn (N2 0) → tFm (B 6) (1401 * s) (TS2 s)) := by
  have d1 : ¬ Int32.ofNat 1 = Int32.ofNat 0 := by decide
  intro g
  induction g with
  | zero => intro p fu I A Z N TS h1 h2 H; exact absurd H.2.2.2.2.1 (by omega)
  | succ g ih =>
    intro p fu I A Z N TS h1 h2 H hq h14 hr hA hF
    obtain ⟨fu, rfl⟩ : ∃ g, fu = g + 1 := ⟨fu - 1, by omega⟩
    have h9 : len ≤ 900 := H.2.2.2.2.2
    have hp : p ≤ len := H.2.2.2.2.1
    have i13 := H.1
    have i15 := H.2.1
    have e1 := t_hasFailed0 (Γ := Γ) (n := n) (m := m) (A := A) (S := Z) (h := h) H.2.2.1
    rw [gParse]
    by_cases hc : len ≤ p
    · have c1 : Int32.ofNat len ≤ Int32.ofNat p := by rw [i_le (by omega) (by omega)]; omega
      rw [if_pos hc]
      refine ⟨I, A, ?_, fun _ _ _ => rfl, ⟨H.1, fun _ _ _ _ _ => rfl⟩, hr, hA, hF⟩
      rw [fX3_load_p50]
      simp (maxDischargeDepth := 9) only [xbind, xlet, xpure, tw_sel, tg_0, tg_4, tg_9, tg_12, tg_13, tg_14, tg_15, tg_16, tg_17, tg_18, tg_19, tg_20, tg_21, tg_24, tr_1, tr_2, tr_3, tr_5, tr_6, tr_7, tr_8, tr_10, tr_11, tr_22, tr_23, tp_0, tp_4, tp_9, tp_12, tp_13, tp_14, tp_15, tp_16, tp_17, tp_18, tp_19, tp_20, tp_21, tp_24, va_up_self, va_up_ne, va_uu, i_ofNat, i_add, i_mul, Nat.add_zero, Nat.zero_add, reduceIte, if_true, if_false, Nat.reduceEqDiff, ne_eq, not_false_eq_true, Nat.reduceEqDiff, not_true_eq_false, e1, i13, i15, c1]
      cases fX3_load_p75 m l1 Γ (tw m I A Z h) n <;> rfl
    · have c1 : ¬ Int32.ofNat len ≤ Int32.ofNat p := by rw [i_le (by omega) (by omega)]; omega
      rw [if_neg hc]
      obtain ⟨J, B, e2, r2, o2⟩ := t_readLine (Γ := Γ) (n := n) (m := m) (h := h) hs hr hq I A Z H h14 hA hF
      have hk := gLine_ok (T := T) h9 hp hr
      have stop : ∀ (J : Nat → Int32) (fu : Nat), 0 < fu → ¬ J 16 = -Int32.ofNat 1 → fX3_load_p50 fu m l1 Γ (tw m J B Z h) n = fX3_load_p75 m l1 Γ (tw m J B Z h) n := by
        intro J fu hfu hj
        obtain ⟨fu, rfl⟩ : ∃ g, fu = g + 1 := ⟨fu - 1, by omega⟩
        have e3 := t_hasFailed1 (Γ := Γ) (n := n) (m := m) (A := B) (S := Z) (h := h) hj
        rw [fX3_load_p50]
        simp (maxDischargeDepth := 9) only [xbind, xlet, xpure, tw_sel, tg_0, tg_4, tg_9, tg_12, tg_13, tg_14, tg_15, tg_16, tg_17, tg_18, tg_19, tg_20, tg_21, tg_24, tr_1, tr_2, tr_3, tr_5, tr_6, tr_7, tr_8, tr_10, tr_11, tr_22, tr_23, tp_0, tp_4, tp_9, tp_12, tp_13, tp_14, tp_15, tp_16, tp_17, tp_18, tp_19, tp_20, tp_21, tp_24, va_up_self, va_up_ne, va_uu, i_ofNat, i_add, i_mul, Nat.add_zero, Nat.zero_add, reduceIte, if_true, if_false, Nat.reduceEqDiff, ne_eq, not_false_eq_true, Nat.reduceEqDiff, not_true_eq_false, e3, d1]
        cases fX3_load_p75 m l1 Γ (tw m J B Z h) n <;> rfl
      have unf : fX3_load_p50 (fu + 1) m l1 Γ (tw m I A Z h) n = fX3_load_p50 fu m l1 Γ (tw m J B Z h) n := by
        conv => lhs; rw [fX3_load_p50]
        simp (maxDischargeDepth := 9) only [xbind, xlet, xpure, tw_sel, tg_0, tg_4, tg_9, tg_12, tg_13, tg_14, tg_15, tg_16, tg_17, tg_18, tg_19, tg_20, tg_21, tg_24, tr_1, tr_2, tr_3, tr_5, tr_6, tr_7, tr_8, tr_10, tr_11, tr_22, tr_23, tp_0, tp_4, tp_9, tp_12, tp_13, tp_14, tp_15, tp_16, tp_17, tp_18, tp_19, tp_20, tp_21, tp_24, va_up_self, va_up_ne, va_uu, i_ofNat, i_add, i_mul, Nat.add_zero, Nat.zero_add, reduceIte, if_true, if_false, Nat.reduceEqDiff, ne_eq, not_false_eq_true, Nat.reduceEqDiff, not_true_eq_false, e1, i13, i15, c1, e2]
        cases fX3_load_p50 fu m l1 Γ (tw m J B Z h) n <;> rfl
      rw [unf]
      cases hl : gLine T len p N TS with
      | inl e =>
        rw [hl] at o2 hk
        exact ⟨J, B, stop J fu (by omega) (o2.fail (Nat.le_trans hk.1 h9)), r2, hk.1, o2⟩
      | inr r =>
        obtain ⟨p2, N2, TS2⟩ := r
        rw [hl] at o2 hk
        dsimp only at o2 ⊢
        cases h3 : gSg T len 59 p2 with
        | inl e =>
          rw [h3] at o2
          have := (gSg_er hk.2.1 h3).1
          exact ⟨J, B, stop J fu (by omega) (o2.fail (Nat.le_trans this h9)), r2, this, o2⟩
        | inr p3 =>
          rw [h3] at o2
          obtain ⟨o2, b2, B2, F2⟩ := o2
          have a3 := gSg_ok h3
          have q0 := gBl_ge (T := T) (len := len) (p := p3)
          have q1 := gBl_le (T := T) a3.2
          have hk1 := hk.1
          obtain ⟨J3, B3, e3, r3, o3⟩ := ih (gBl T len p3) fu J B Z N2 TS2 (by omega) (by omega) (H.ol o2 q1 (r2 8 (by decide) (by decide))) gBl_idem b2 hk.2.2 B2 F2
          refine ⟨J3, B3, e3, fun j a b => (r3 j a b).trans (r2 j a b), ?_⟩
          revert o3
          dsimp only
          cases gParse T len g (gBl T len p3) N2 TS2 with
          | inl e => exact fun o => ⟨o.1, o2.er o.2⟩
          | inr r => exact fun o => ⟨o2.trans o.1, o.2⟩
end TP13
section TP14
variable {Γ : Nat → Option Nat} {m : Nat} {h : xH} {len : Nat}
/-- what load does ahead of its loop -/
theorem t_load_head {n : Nat} {I : Nat → Int32} {A : Nat → Nat → Int32} {Z : Nat → Int64} (hs : tStr Γ m h) (hl : I 12 = Int32.ofNat len) (h9 : len ≤ 900) :
    ∃ J B, fX3_load m Γ (tw m I A Z h) n = fX3_load_p75 m (I 4) Γ (tw m J B Z h) n ∧ (∀ j, j ≠ 1 → j ≠ 2 → j ≠ 6 → B j = A j) ∧ B 2 = pCpy (A 1) (A 2) 0 0 592 ∧ (∀ j, j ≠ 0 → j ≠ 4 → j ≠ 12 → j ≠ 13 → j ≠ 14 → j ≠ 15 → j ≠ 16 → j ≠ 17 → j ≠ 20 → j ≠ 21 → J j = I j) ∧ J 0 = Int32.ofNat 0 ∧ J 4 = Int32.ofNat 0 ∧ J 12 = Int32.ofNat 0 ∧ (match gParse (A 8) len (len + 1) (gBl (A 8) len 0) (pZero (A 1) 592) (fun _ => []) with
      | .inl e => e.1 ≤ len ∧ J 16 = Int32.ofNat e.1 ∧ J 17 = Int32.ofNat e.2
      | .inr (p2, N2, TS2) => J 16 = -Int32.ofNat 1 ∧ J 17 = Int32.ofNat 0 ∧ rdN N2 TS2 ∧ B 1 = N2 ∧ ∀ s, s < nn (N2 0) → tFm (B 6) (1401 * s) (TS2 s)) := by
  have e1 := fun I => t_putsAside (Γ := Γ) (n := n) (m := m) (I := I) (S := Z) (h := h) (A := A)
  have e2 := fun I A => t_begins (Γ := Γ) (n := n) (m := m) (I := I) (S := Z) (h := h) (A := A)
  have hz : ∀ j, j < 592 → pZero (A 1) 592 j = Int32.ofNat 0 := fun j hj => by unfold pZero; exact if_pos hj
  have hr : rdN (pZero (A 1) 592) (fun _ => []) := by
    have z0 : nn (Int32.ofNat 0) = 0 := nn_of (by decide)
    refine ⟨⟨?_, ?_, ?_, ?_, ?_, ?_, ?_, ?_, fun s hs => ?_, fun j hj => ?_⟩, hz 2 (by decide), hz 3 (by decide), fun s hs => ?_⟩
    · rw [hz 0 (by decide)]; exact nN_of _ (by decide)
    · rw [hz 0 (by decide), z0]; decide
    · rw [hz 1 (by decide)]; exact nN_of _ (by decide)
    · rw [hz 1 (by decide), z0]; decide
    · rw [hz 2 (by decide)]; exact nN_of _ (by decide)
    · rw [hz 2 (by decide), z0]; exact Nat.zero_le _
    · rw [hz 3 (by decide)]; exact nN_of _ (by decide)
    · rw [hz 3 (by decide), z0]; decide
    · rw [hz 0 (by decide), z0] at hs; omega
    · rw [hz 3 (by decide), z0] at hj; omega
    · rw [hz 0 (by decide), z0] at hs; omega
  have H : tPs (A 8) len (va_up (va_up (va_up (va_up (va_up (va_up (va_up I 0 (Int32.ofNat 0)) 15 (Int32.ofNat len)) 12 (Int32.ofNat 0)) 13 (Int32.ofNat 0)) 16 (-Int32.ofNat 1)) 17 (Int32.ofNat 0)) 4 (Int32.ofNat 0)) (va_up (va_up A 2 (pCpy (A 1) (A 2) 0 0 592)) 1 (pZero (A 1) 592)) 0 :=
    ⟨by simp only [va_ap]; rfl, by simp only [va_ap]; rfl, by simp only [va_ap]; rfl, by rw [va_up_ne _ _ (by decide), va_up_ne _ _ (by decide)], Nat.zero_le _, h9⟩
  obtain ⟨J1, e3, o3, b3⟩ := t_bl (Γ := Γ) (n := n) (m := m) (S := Z) (h := h) H
  have q1 := gBl_le (T := A 8) (Nat.zero_le len)
  have H1 := H.ok (B := va_up (va_up A 2 (pCpy (A 1) (A 2) 0 0 592)) 1 (pZero (A 1) 592)) o3 q1 rfl
  obtain ⟨J, B, e4, r4, o4⟩ := t_load_p50 (Γ := Γ) (n := n) (m := m) (h := h) hs (I 4) (len + 1) (gBl (A 8) len 0) xFU J1 _ Z (pZero (A 1) 592) (fun _ => []) (by omega) (by unfold xFU; omega) H1 gBl_idem b3 hr (va_up_self _ _ _) (fun s hs => by rw [hz 0 (by decide), nn_of (by decide)] at hs; omega)
  have j1 : ∀ j, j ≠ 0 → j ≠ 4 → j ≠ 12 → j ≠ 13 → j ≠ 14 → j ≠ 15 → j ≠ 16 → j ≠ 17 → J1 j = I j := by
    intro j a b c d e f g i
    rw [o3.2 j d e, va_up_ne _ _ b, va_up_ne _ _ i, va_up_ne _ _ g, va_up_ne _ _ d, va_up_ne _ _ c, va_up_ne _ _ f, va_up_ne _ _ a]
  have j0 : J1 0 = Int32.ofNat 0 := by rw [o3.2 0 (by decide) (by decide)]; simp only [va_ap]; rfl
  have j4 : J1 4 = Int32.ofNat 0 := by rw [o3.2 4 (by decide) (by decide)]; simp only [va_ap]; rfl
  have j12 : J1 12 = Int32.ofNat 0 := by rw [o3.2 12 (by decide) (by decide)]; simp only [va_ap]; rfl
  have j17 : J1 17 = Int32.ofNat 0 := by rw [o3.2 17 (by decide) (by decide)]; simp only [va_ap]; rfl
  have jJ : ∀ j, j ≠ 13 → j ≠ 14 → j ≠ 16 → j ≠ 17 → j ≠ 20 → j ≠ 21 → J j = J1 j := by
    revert o4
    cases gParse (A 8) len (len + 1) (gBl (A 8) len 0) (pZero (A 1) 592) (fun _ => []) with
    | inl e => exact fun o => o.2.2.2
    | inr r => exact fun o j a b c d e f => o.1.2 j a b e f
  refine ⟨J, B, ?_, fun j a b c => by rw [r4 j a c, va_up_ne _ _ a, va_up_ne _ _ b], by rw [r4 2 (by decide) (by decide), va_up_ne _ _ (by decide), va_up_self], fun j a b c d e f g i k l => by rw [jJ j d e g i k l, j1 j a b c d e f g i], by rw [jJ 0 (by decide) (by decide) (by decide) (by decide) (by decide) (by decide)]; exact j0, by rw [jJ 4 (by decide) (by decide) (by decide) (by decide) (by decide) (by decide)]; exact j4, by rw [jJ 12 (by decide) (by decide) (by decide) (by decide) (by decide) (by decide)]; exact j12, ?_⟩
  · rw [← e4]
    simp (maxDischargeDepth := 9) only [fX3_load, xbind, xlet, xpure, tw_sel, tg_0, tg_4, tg_9, tg_12, tg_13, tg_14, tg_15, tg_16, tg_17, tg_18, tg_19, tg_20, tg_21, tg_24, tr_1, tr_2, tr_3, tr_5, tr_6, tr_7, tr_8, tr_10, tr_11, tr_22, tr_23, tp_0, tp_4, tp_9, tp_12, tp_13, tp_14, tp_15, tp_16, tp_17, tp_18, tp_19, tp_20, tp_21, tp_24, va_up_self, va_up_ne, va_uu, i_ofNat, i_add, i_mul, Nat.add_zero, Nat.zero_add, reduceIte, if_true, if_false, Nat.reduceEqDiff, ne_eq, not_false_eq_true, Nat.reduceEqDiff, not_true_eq_false, hl, e1, e2, e3]
    cases fX3_load_p50 xFU m (I 4) Γ (tw m J1 (va_up (va_up A 2 (pCpy (A 1) (A 2) 0 0 592)) 1 (pZero (A 1) 592)) Z h) n <;> rfl
  · revert o4
    cases gParse (A 8) len (len + 1) (gBl (A 8) len 0) (pZero (A 1) 592) (fun _ => []) with
    | inl e => exact fun o => ⟨o.1, o.2.1, o.2.2.1⟩
    | inr r => exact fun o => ⟨by rw [o.1.2 16 (by decide) (by decide) (by decide) (by decide)]; exact H1.2.2.1, by rw [o.1.2 17 (by decide) (by decide) (by decide) (by decide)]; exact j17, o.2⟩
end TP14
