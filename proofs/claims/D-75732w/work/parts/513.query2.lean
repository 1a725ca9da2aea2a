/-! part 513: what holds on a larger heap; more that is asked -/
/-- all cells of h are in g as they were -/
def hsub (h g : xH) : Prop := ∀ a, h a ≠ none → g a = h a
/-- no cell from n on -/
def xbd (n : Nat) (h : xH) : Prop := ∀ a, n ≤ a → h a = none
theorem hsub.rfl {h : xH} : hsub h h := fun _ _ => Eq.refl _
theorem hsub.trans {h g k : xH} (a : hsub h g) (b : hsub g k) : hsub h k := fun q hq => by
  have e := a q hq
  rw [b q (by rw [e]; exact hq), e]
theorem hsub_up {h : xH} {n : Nat} {c : xAC} (hb : h n = none) : hsub h (xupd h n c) := fun a ha => up_ne (fun e => by subst e; exact ha hb)
theorem xbd_up {h : xH} {n m : Nat} {c : xAC} (hb : xbd n h) (hm : m < n) : xbd n (xupd h m c) := fun a ha => by rw [up_ne (by omega)]; exact hb a ha
theorem xbd_up1 {h : xH} {n : Nat} {c : xAC} (hb : xbd n h) : xbd (n + 1) (xupd h n c) := fun a ha => by rw [up_ne (by omega)]; exact hb a (by omega)
theorem yO_at {h : xH} {c a : Nat} (H : yO h c a) : h a ≠ none := by
  obtain ⟨w, fs, hc, -⟩ := yobj H
  rw [hc]
  exact fun z => nomatch z
theorem yA_at {h : xH} {t a : Nat} (H : yA h t a) : h a ≠ none := by
  obtain ⟨w, N, x, hc, -⟩ := yarr H
  rw [hc]
  exact fun z => nomatch z
section KM
variable {h g : xH} {Y : Nat → Nat} {p fe s st co o a : Nat} {N : Nat → Int32}
theorem kSt.cg (H : kSt h st co p) (e1 : g st = h st) (e2 : g co = h co) : kSt g st co p := by
  obtain ⟨h1, h2, h3, h4, h5⟩ := H
  exact ⟨(yW_c e1).mpr h1, (yr_c e1).trans h2, (yr_c e1).trans h3, (yB_c e2).mpr h4, (yln_c e2).trans h5⟩
theorem kLg.cg {l : Nat} (H : kLg h l N s) (e : g l = h l) : kLg g l N s := by
  obtain ⟨h1, h2, h3, h4, h5, h6, h7⟩ := H
  exact ⟨(yW_c e).mpr h1, (yi_c e).trans h2, (yi_c e).trans h3, (yi_c e).trans h4, (yi_c e).trans h5, (yi_c e).trans h6, (yi_c e).trans h7⟩
theorem kDq.cg {d e : Nat} {Q : List Nat} (H : kDq h d e Q) (e1 : g d = h d) (e2 : g e = h e) : kDq g d e Q := by
  obtain ⟨a1, a2, a3, hd, cap, b1, b2, b3, b4, b5, b6, b7⟩ := H
  exact ⟨(yW_c e1).mpr a1, (yr_c e1).trans a2, (yB_c e2).mpr a3, hd, cap, (yln_c e2).trans b1, b2, b3, b4, (yi_c e1).trans b5, (yi_c e1).trans b6, fun i hi => by rw [ylr_c e2]; exact b7 i hi⟩
theorem kSg.cg {Q : List Nat} (H : kSg h Q N s) (e : ∀ q, yO h 37 q → g q = h q) : kSg g Q N s :=
  ⟨H.1, H.2.1, fun i hi => ⟨(yO_c (e _ (H.2.2 i hi).1)).mpr (H.2.2 i hi).1, fun w hw => (yi_c (e _ (H.2.2 i hi).1)).trans ((H.2.2 i hi).2 w hw)⟩⟩
theorem kHd.cg (H : kHd h Y p N s) (e : ∀ k, k ≤ 6 → g (Y k) = h (Y k)) (eq : ∀ q, yO h 37 q → g q = h q) : kHd g Y p N s := by
  obtain ⟨h1, h2, h3, h4, h5, h6, h7, h8, h9, ⟨s1, s2, s3⟩, h10, h11, h12, h13, Q, h14, h15⟩ := H
  have e0 := e 0 (by omega)
  have e1 := e 1 (by omega)
  have e3 := e 3 (by omega)
  exact ⟨(yW_c e0).mpr h1, (yr_c e0).trans h2, (yr_c e0).trans h3, (yr_c e0).trans h4, (yi_c e0).trans h5, (yi_c e0).trans h6, (yi_c e0).trans h7, (yr_c e0).trans h8, (yr_c e0).trans h9, ⟨(yB_c e1).mpr s1, (yln_c e1).trans s2, fun j hj => by rw [yli_c e1]; exact s3 j hj⟩, h10.cg (e 2 (by omega)) e3, fun j hj => by rw [yli_c e3]; exact h11 j hj, h12, h13.cg (e 4 (by omega)), Q, h14.cg (e 5 (by omega)) (e 6 (by omega)), h15.cg eq⟩
theorem kHd.at (H : kHd h Y p N s) : ∀ k, k ≤ 6 → h (Y k) ≠ none := by
  obtain ⟨h1, h2, h3, h4, h5, h6, h7, h8, h9, ⟨s1, s2, s3⟩, h10, h11, h12, h13, Q, h14, h15⟩ := H
  intro k hk
  rcases k with _ | _ | _ | _ | _ | _ | _ | k
  · exact yO_at (yO_of _ _ _ h1)
  · exact yA_at (yA_of _ _ _ s1)
  · exact yO_at (yO_of _ _ _ h10.1)
  · exact yA_at (yA_of _ _ _ h10.2.2.2.1)
  · exact yO_at (yO_of _ _ _ h13.1)
  · exact yO_at (yO_of _ _ _ h14.1)
  · exact yA_at (yA_of _ _ _ h14.2.2.1)
  · omega
theorem kHd.mono (H : kHd h Y p N s) (hs : hsub h g) : kHd g Y p N s := H.cg (fun k hk => hs _ (H.at k hk)) (fun q hq => hs _ (yO_at hq))
theorem kSp.cg (H : kSp h p fe o a) (e1 : g p = h p) (e2 : g fe = h fe) : kSp g p fe o a := by
  obtain ⟨h1, h2, h3, h4, h5, h6, h7, h8⟩ := H
  exact ⟨(yO_c e1).mpr h1, (yi_c e1).trans h2, (yi_c e1).trans h3, (yr_c e1).trans h4, (yA_c e2).mpr h5, (yln_c e2).trans h6, h7, h8⟩
theorem kSp.mono (H : kSp h p fe o a) (hs : hsub h g) : kSp g p fe o a := H.cg (hs _ (yO_at H.1)) (hs _ (yA_at H.2.2.2.2.1))
theorem kSpN.mono (H : kSpN h p fe N s) (hs : hsub h g) : kSpN g p fe N s := ⟨H.1.mono hs, fun j hj => by rw [yli_c (hs _ (yA_at H.1.2.2.2.2.1))]; exact H.2 j hj⟩
variable {x al ae pl : Nat} {E : Nat → Nat → Nat} {P FE : Nat → Nat}
theorem kSta.mono (H : kSta h st al ae pl E P N) (hs : hsub h g) : kSta g st al ae pl E P N := by
  obtain ⟨h1, h2, h3, h4, h5, h6, h7, h8, h9, h10, h11, h12⟩ := H
  have e1 := hs _ (yO_at (yO_of _ _ _ h1))
  have e6 := hs _ (yO_at (yO_of _ _ _ h6))
  have e8 := hs _ (yA_at (yA_of _ _ _ h8))
  exact ⟨(yW_c e1).mpr h1, (yr_c e1).trans h2, (yr_c e1).trans h3, (yi_c e1).trans h4, (yi_c e1).trans h5, (yW_c e6).mpr h6, (yr_c e6).trans h7, (yB_c e8).mpr h8, (yln_c e8).trans h9, (yi_c e6).trans h10, fun t ht => by rw [ylr_c e8]; exact h11 t ht, fun t ht => (h12 t ht).mono hs⟩
theorem kW.mono (H : kW h x st al ae pl E P FE N) (hs : hsub h g) : kW g x st al ae pl E P FE N := by
  obtain ⟨h1, h2, h3, h4, h5⟩ := H
  have e1 := hs _ (yO_at (yO_of _ _ _ h1))
  exact ⟨(yW_c e1).mpr h1, (yr_c e1).trans h2, h3, h4.mono hs, fun t ht => (h5 t ht).mono hs⟩
end KM
section KR
variable {Γ : Nat → Option Nat} {h : xH} {n : Nat} {x st al ae pl : Nat} {E : Nat → Nat → Nat} {P FE : Nat → Nat} {N : Nat → Int32} {t : Nat}
theorem k_throw {α : Type} {ci : Nat} : xbind (xmk ci) (fun v => (xthrow (some v) : xM α)) Γ h n = some (.inr n, kNx h n ci, 1, 6) := by
  have ho : xobj (kNx h n ci) (some n) = some (n, ci, []) := by unfold xobj kNx; simp only [up_self]
  have ht : xthrow (α := α) (some n) Γ (kNx h n ci) (n + 1) = some (.inr n, kNx h n ci, 0, 0) := by unfold xthrow; rw [ho]
  simp only [xbind, xmk]
  rw [show xupd h n (true, .inr (ci, [])) = kNx h n ci from rfl, ht]
theorem k_count1 (W : kW h x st al ae pl E P FE N) (hpl : yW h 6 pl) (h3 : yi h 6 1 pl = N 3) {w : Nat} (hw : w ≤ 3) : fX1_count x (Int32.ofNat w) Γ h n = some (.inl (N w), h, 0, 0) := by
  have i1 : ∀ c, c < 100 → ((Int32.ofNat w = Int32.ofNat c) ↔ w = c) := fun c hc => i_eq (by omega) (by omega)
  have hpl := yO_of _ _ _ hpl
  rcases w with _ | _ | _ | _ | w
  · simp only [fX1_count, i_ofNat, i1 0 (by omega), if_true, xbind, xpure, kw_now W, kw_al W, kw_size W, Nat.add_zero]
  · have c0 : ¬ Int32.ofNat (0 + 1) = Int32.ofNat 0 := by decide
    simp only [fX1_count, i_ofNat, if_neg c0, Nat.zero_add, if_true, xbind, xpure, kw_now W, kw_year W, Nat.add_zero]
  · have c0 : ¬ Int32.ofNat 2 = Int32.ofNat 0 := by decide
    have c1 : ¬ Int32.ofNat 2 = Int32.ofNat 1 := by decide
    simp only [fX1_count, i_ofNat, Nat.zero_add, Nat.reduceAdd, if_neg c0, if_neg c1, if_true, xbind, xpure, kw_now W, kw_closed W, Nat.add_zero]
  · have c0 : ¬ Int32.ofNat 3 = Int32.ofNat 0 := by decide
    have c1 : ¬ Int32.ofNat 3 = Int32.ofNat 1 := by decide
    have c2 : ¬ Int32.ofNat 3 = Int32.ofNat 2 := by decide
    simp only [fX1_count, i_ofNat, Nat.zero_add, Nat.reduceAdd, if_neg c0, if_neg c1, if_neg c2, if_true, xbind, xpure, kw_now W, kw_pl W, e_sel hpl, fJ19_size, e_gI hpl kn6_1, h3, Nat.add_zero]
  · omega
theorem k_count0 {p : Int32} (hp : ¬ (0 ≤ p.toInt ∧ p.toInt ≤ 3)) : fX1_count x p Γ h n = some (.inr n, kNx h n 10, 1, 6) := by
  have c : ∀ k, k ≤ 3 → ¬ p = Int32.ofNat k := by
    rintro k hk rfl
    rw [i_toInt (by omega)] at hp
    omega
  have c0 := c 0 (by omega)
  have c1 := c 1 (by omega)
  have c2 := c 2 (by omega)
  have c3 := c 3 (by omega)
  unfold fX1_count
  simp only [i_ofNat, if_neg c0, if_neg c1, if_neg c2, if_neg c3]
  exact k_throw
theorem k_field1 (W : kW h x st al ae pl E P FE N) (hs : t < nn (N 0)) {w : Nat} (hw : w ≤ 9) (hb : N (zI t 6) = Int32.ofNat 0 ∨ N (zI t 6) = Int32.ofNat 1) : fX1_field x (Int32.ofNat t) (Int32.ofNat w) Γ h n = some (.inl (pField N t w), h, 0, 0) := by
  have b := kw_12 W hs
  have H := kw_hd W hs
  have hp := kw_sp W hs
  have o2 : N (zI t 2) = Int32.ofNat (nn (N (zI t 2))) := (W.2.2.1.2.2.2.2.2.2.2.2.1 t hs).2.2.1
  have i1 : ∀ c, c < 100 → ((Int32.ofNat w = Int32.ofNat c) ↔ w = c) := fun c hc => i_eq (by omega) (by omega)
  have o1 := b.2.1
  unfold fX1_field pField
  simp only [xbind, kw_x W, k_herd1 W hs, i_ofNat, i1 0 (by omega), i1 1 (by omega), i1 2 (by omega), i1 3 (by omega), i1 4 (by omega), i1 5 (by omega), i1 6 (by omega), i1 7 (by omega), i1 8 (by omega), i1 9 (by omega), Nat.add_zero]
  by_cases c0 : w = 0
  · simp only [if_pos c0, xbind, xpure, kh_0 H, kp_1 hp.1, ← o1, Nat.add_zero]
  by_cases c1 : w = 1
  · simp only [if_neg c0, if_pos c1, xbind, xpure, kh_0 H, kp_3 hp.1, ← o2, Nat.add_zero]
  by_cases c2 : w = 2
  · simp only [if_neg c0, if_neg c1, if_pos c2, xbind, xpure, kh_3 H, Nat.add_zero]
  by_cases c3 : w = 3
  · simp only [if_neg c0, if_neg c1, if_neg c2, if_pos c3, xbind, xpure, kh_2 H, kh_total H b.1, Nat.add_zero]
  by_cases c4 : w = 4
  · simp only [if_neg c0, if_neg c1, if_neg c2, if_neg c3, if_pos c4, xbind, xpure, kh_2 H, kh_adults H hp, Nat.add_zero]
  by_cases c5 : w = 5
  · simp only [if_neg c0, if_neg c1, if_neg c2, if_neg c3, if_neg c4, if_pos c5, xbind, xpure, kh_4 H, Nat.add_zero]
  by_cases c6 : w = 6
  · simp only [if_neg c0, if_neg c1, if_neg c2, if_neg c3, if_neg c4, if_neg c5, if_pos c6, xbind, xpure, kh_6 H, kh_l6 H, Nat.add_zero]
  by_cases c7 : w = 7
  · simp only [if_neg c0, if_neg c1, if_neg c2, if_neg c3, if_neg c4, if_neg c5, if_neg c6, if_pos c7, xbind, xpure, kh_sel H, kh_left H, Nat.add_zero]
  by_cases c8 : w = 8
  · rcases hb with hb | hb
    · simp only [if_neg c0, if_neg c1, if_neg c2, if_neg c3, if_neg c4, if_neg c5, if_neg c6, if_neg c7, if_pos c8, xbind, xpure, kh_5 H, hb, i_ofNat, if_true, Nat.add_zero]
    · simp only [if_neg c0, if_neg c1, if_neg c2, if_neg c3, if_neg c4, if_neg c5, if_neg c6, if_neg c7, if_pos c8, xbind, xpure, kh_5 H, hb, i_ofNat, if_neg b2i_1, Nat.add_zero]
  · have c9 : w = 9 := by omega
    obtain ⟨Q, hd, hq⟩ := H.2.2.2.2.2.2.2.2.2.2.2.2.2.2
    have e1 := hq.1
    simp only [if_neg c0, if_neg c1, if_neg c2, if_neg c3, if_neg c4, if_neg c5, if_neg c6, if_neg c7, if_neg c8, if_pos c9, xbind, xpure, kh_7 H, kd_size hd, e1, Nat.add_zero]
theorem k_field0 (W : kW h x st al ae pl E P FE N) {p q : Int32} (hp : ¬ vS N p) : fX1_field x p q Γ h n = some (.inr n, kNx h n 8, 1, 6) := by
  simp only [fX1_field, xbind, kw_x W, k_herd0 W hp]
theorem k_field2 (W : kW h x st al ae pl E P FE N) (hs : t < nn (N 0)) {q : Int32} (hq : ¬ (0 ≤ q.toInt ∧ q.toInt ≤ 9)) : fX1_field x (Int32.ofNat t) q Γ h n = some (.inr n, kNx h n 10, 1, 6) := by
  have c : ∀ k, k ≤ 9 → ¬ q = Int32.ofNat k := by
    rintro k hk rfl
    rw [i_toInt (by omega)] at hq
    omega
  unfold fX1_field
  rw [x_b1 ((kw_x W).trans (k_herd1 W hs))]
  simp only [i_ofNat, if_neg (c 0 (by omega)), if_neg (c 1 (by omega)), if_neg (c 2 (by omega)), if_neg (c 3 (by omega)), if_neg (c 4 (by omega)), if_neg (c 5 (by omega)), if_neg (c 6 (by omega)), if_neg (c 7 (by omega)), if_neg (c 8 (by omega)), if_neg (c 9 (by omega))]
  exact k_throw
/-! sums over all ages -/
theorem k_lam0 {la : Nat} {Y : Nat → Nat} {p fe s : Nat} (H : kHd h Y p N s) (hp : kSpN h p fe N s) (hl : yO h 1000 la) (hr : yr h 1000 0 la = some (Y 0)) {j : Nat} (hj : j ≤ nn (N (zI s 1))) : fL_0 la (Int32.ofNat j) Γ h n = some (.inl (pBorn N s j), h, 0, 0) := by
  have h12 := hp.1.2.2.2.2.2.2.1
  simp only [fL_0, fX1_lambda_reproduction_0, xbind, xpure, e_gR hl kn1000_0, hr, kh_sel H, kh_alive H h12 (show j ≤ nn (N (zI s 1)) + 1 by omega), kh_0 H, kp_2 hp.1, kp_fe hp (show j < 13 by omega), Nat.add_zero]
  rfl
theorem k_lam1 {la : Nat} {Y : Nat → Nat} {p fe s : Nat} (H : kHd h Y p N s) (hp : kSpN h p fe N s) (hl : yO h 1001 la) (hr : yr h 1001 0 la = some (Y 0)) {j : Nat} (hj : j ≤ nn (N (zI s 1))) : fL_1 la (Int32.ofNat j) Γ h n = some (.inl (pBorn N s j), h, 0, 0) := by
  have h12 := hp.1.2.2.2.2.2.2.1
  simp only [fL_1, fX1_lambda_generation_1, xbind, xpure, e_gR hl kn1001_0, hr, kh_sel H, kh_alive H h12 (show j ≤ nn (N (zI s 1)) + 1 by omega), kh_0 H, kp_2 hp.1, kp_fe hp (show j < 13 by omega), Nat.add_zero]
  rfl
theorem k_lam2 {la : Nat} {Y : Nat → Nat} {p fe s : Nat} (H : kHd h Y p N s) (hp : kSpN h p fe N s) (hl : yO h 1002 la) (hr : yr h 1002 0 la = some (Y 0)) {j : Nat} (hj : j ≤ nn (N (zI s 1))) : fL_2 la (Int32.ofNat j) Γ h n = some (.inl ((Int32.ofNat j).toInt64 * pBorn N s j), h, 0, 0) := by
  have h12 := hp.1.2.2.2.2.2.2.1
  simp only [fL_2, fX1_lambda_generation_2, xbind, xpure, e_gR hl kn1002_0, hr, kh_sel H, kh_alive H h12 (show j ≤ nn (N (zI s 1)) + 1 by omega), kh_0 H, kp_2 hp.1, kp_fe hp (show j < 13 by omega), Nat.add_zero]
  unfold pBorn
  rw [Int64.mul_assoc]
theorem k_over {la : Nat} {Y : Nat → Nat} {p fe s : Nat} {F : Nat → Int64} {G : Nat → Nat → Int64 → Int64} (H : kHd h Y p N s) (hp : kSpN h p fe N s) (hG0 : ∀ j v, G j 0 v = v) (hG : ∀ j k v, G j (k + 1) v = G (j + 1) k (v + F j)) (hl : ∀ j, j ≤ nn (N (zI s 1)) → xsel (some la) [(1000, fun z => fL_0 z (Int32.ofNat j)), (1001, fun z => fL_1 z (Int32.ofNat j)), (1002, fun z => fL_2 z (Int32.ofNat j))] Γ h n = some (.inl (F j), h, 0, 0)) : fX1_overAges (some (Y 0)) (some la) Γ h n = some (.inl (G 0 (nn (N (zI s 1)) + 1) 0), h, 0, 0) := by
  have h12 := hp.1.2.2.2.2.2.2.1
  have lp : ∀ (k j fu : Nat) (v : Int64), j + k = nn (N (zI s 1)) + 1 → k < fu → fX1_overAges_p5 fu (some (Y 0)) (some la) v (Int32.ofNat j) Γ h n = some (.inl (G j k v), h, 0, 0) := by
    intro k
    induction k with
    | zero =>
      intro j fu v hj hf
      obtain ⟨fu, rfl⟩ : ∃ g, fu = g + 1 := ⟨fu - 1, by omega⟩
      have c1 : Int32.ofNat (nn (N (zI s 1))) < Int32.ofNat j := by rw [i_lt (by omega) (by omega)]; omega
      rw [fX1_overAges_p5, hG0]
      simp only [xbind, xpure, kh_0 H, kp_1 hp.1, if_pos c1, Nat.add_zero]
    | succ k ih =>
      intro j fu v hj hf
      obtain ⟨fu, rfl⟩ : ∃ g, fu = g + 1 := ⟨fu - 1, by omega⟩
      have c1 : ¬ Int32.ofNat (nn (N (zI s 1))) < Int32.ofNat j := by rw [i_lt (by omega) (by omega)]; omega
      have e2 := ih (j + 1) fu (v + F j) (by omega) (by omega)
      rw [fX1_overAges_p5, hG]
      simp only [xbind, xlet, kh_0 H, kp_1 hp.1, if_neg c1, hl j (by omega), i_ofNat, i_add, e2, Nat.add_zero]
  have e1 := lp (nn (N (zI s 1)) + 1) 0 xFU 0 (by omega) (by unfold xFU; omega)
  simp only [fX1_overAges, xlet, i_ofNat, e1]
/-- a new object with one reference -/
theorem new1 {ci b : Nat} (hk : ykn ci = [3]) : yO (xupd h n (true, .inr (ci, [va_rf (some b)]))) ci n ∧ yr (xupd h n (true, .inr (ci, [va_rf (some b)]))) ci 0 n = some b := by
  refine ⟨⟨true, ?_⟩, ?_⟩
  · unfold yhd; rw [up_self]; show some (true, Sum.inr (ci, [ykd (va_rf (some b))])) = _; rw [hk, ykd_rf]
  · unfold yr yv; rw [up_self]; simp only [if_true]; rfl
theorem k_reproduction1 (W : kW h x st al ae pl E P FE N) (hb : xbd n h) (ht : t < nn (N 0)) : ∃ h', fX1_reproduction x (Int32.ofNat t) Γ h n = some (.inl (FP.ddiv (FP.l2d (pRep N t 0 (nn (N (zI t 1)) + 1) 0)) (4726483295884279808 : UInt64)), h', 1, 1) ∧ hsub h h' ∧ xbd (n + 1) h' := by
  have hs := hsub_up (h := h) (n := n) (c := (true, .inr (1000, [va_rf (some (E t 0))]))) (hb n (Nat.le_refl _))
  obtain ⟨n1, n2⟩ := new1 (h := h) (n := n) (ci := 1000) (b := E t 0) rfl
  have H := (kw_hd W ht).mono hs
  have hp := (kw_sp W ht).mono hs
  have e1 := k_over (Γ := Γ) (n := n + 1) (la := n) (F := pBorn N t) (G := pRep N t) H hp (fun _ _ => rfl) (fun _ _ _ => rfl) (fun j hj => by rw [e_sel n1]; exact k_lam0 H hp n1 n2 hj)
  refine ⟨_, ?_, hs, xbd_up1 hb⟩
  have q1 := fun (k : xM UInt64) => x_ddiv (k := k) (dFin.l2dA (pRep N t 0 (nn (N (zI t 1)) + 1) 0)).num d_e8
  simp only [fX1_reproduction, xbind, kw_x W, k_herd1 W ht, xnew, e1, q1, xpure, Nat.add_zero, Nat.zero_add]
theorem k_reproduction0 (W : kW h x st al ae pl E P FE N) {p : Int32} (hp : ¬ vS N p) : fX1_reproduction x p Γ h n = some (.inr n, kNx h n 8, 1, 6) := by
  simp only [fX1_reproduction, xbind, kw_x W, k_herd0 W hp]
theorem k_generation1 (W : kW h x st al ae pl E P FE N) (hb : xbd n h) (ht : t < nn (N 0)) : ∃ h', fX1_generation x (Int32.ofNat t) Γ h n = some (.inl (pQuo (pRepA N t 0 (nn (N (zI t 1)) + 1) 0) (pRep N t 0 (nn (N (zI t 1)) + 1) 0)), h', 2, 2) ∧ hsub h h' ∧ xbd (n + 2) h' := by
  have hs := hsub_up (h := h) (n := n) (c := (true, .inr (1001, [va_rf (some (E t 0))]))) (hb n (Nat.le_refl _))
  have hb1 := xbd_up1 (c := (true, .inr (1001, [va_rf (some (E t 0))]))) hb
  obtain ⟨n1, n2⟩ := new1 (h := h) (n := n) (ci := 1001) (b := E t 0) rfl
  have H := (kw_hd W ht).mono hs
  have hp := (kw_sp W ht).mono hs
  have e1 := k_over (Γ := Γ) (n := n + 1) (la := n) (F := pBorn N t) (G := pRep N t) H hp (fun _ _ => rfl) (fun _ _ _ => rfl) (fun j hj => by rw [e_sel2 n1 (by decide), e_sel n1]; exact k_lam1 H hp n1 n2 hj)
  have hs2 := hsub_up (h := xupd h n (true, .inr (1001, [va_rf (some (E t 0))]))) (n := n + 1) (c := (true, .inr (1002, [va_rf (some (E t 0))]))) (hb1 (n + 1) (Nat.le_refl _))
  obtain ⟨m1, m2⟩ := new1 (h := xupd h n (true, .inr (1001, [va_rf (some (E t 0))]))) (n := n + 1) (ci := 1002) (b := E t 0) rfl
  have H2 := H.mono hs2
  have hp2 := hp.mono hs2
  have e2 := k_over (Γ := Γ) (n := n + 2) (la := n + 1) (F := fun j => (Int32.ofNat j).toInt64 * pBorn N t j) (G := pRepA N t) H2 hp2 (fun _ _ => rfl) (fun _ _ _ => rfl) (fun j hj => by rw [e_sel2 m1 (by decide), e_sel2 m1 (by decide), e_sel m1]; exact k_lam2 H2 hp2 m1 m2 hj)
  refine ⟨_, ?_, hs.trans hs2, xbd_up1 hb1⟩
  unfold pQuo
  by_cases c : pRep N t 0 (nn (N (zI t 1)) + 1) 0 = 0
  · have c0 : lg_cmp (pRep N t 0 (nn (N (zI t 1)) + 1) 0) 0 = Int32.ofNat 0 := j_cmp0.mpr c
    simp only [fX1_generation, xbind, kw_x W, k_herd1 W ht, xnew, e1, e2, i_ofNat, if_pos c0, if_pos c, xpure, Nat.add_zero, Nat.zero_add, Nat.add_assoc, Nat.reduceAdd]
  · have c0 : ¬ lg_cmp (pRep N t 0 (nn (N (zI t 1)) + 1) 0) 0 = Int32.ofNat 0 := fun q => c (j_cmp0.mp q)
    have q1 := fun (k : xM UInt64) => x_ddiv (k := k) (dFin.l2dA (pRepA N t 0 (nn (N (zI t 1)) + 1) 0)).num (dNz.l2dA (d_j0 c))
    simp only [fX1_generation, xbind, kw_x W, k_herd1 W ht, xnew, e1, e2, i_ofNat, if_neg c0, if_neg c, q1, xpure, Nat.add_zero, Nat.zero_add, Nat.add_assoc, Nat.reduceAdd]
theorem k_generation0 (W : kW h x st al ae pl E P FE N) {p : Int32} (hp : ¬ vS N p) : fX1_generation x p Γ h n = some (.inr n, kNx h n 8, 1, 6) := by
  simp only [fX1_generation, xbind, kw_x W, k_herd0 W hp]
end KR
