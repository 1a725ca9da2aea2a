/-! part 596: a herd's year is closed, whole -/
theorem kBk.cg {h g : xH} {m k y : Nat} {e ps V : Nat → Nat} (B : kBk h m k y e ps V) (eq : ∀ q c, yO h c q → (c = 16 ∨ c = 36 ∨ c = 15 ∨ c = 32 ∨ c = 11) → g q = h q) : kBk g m k y e ps V := by
  obtain ⟨⟨l, r, p, rt, lo, hi, T⟩, b2, b3, b4, b5, b6, b7, b8⟩ := B
  have em : g m = h m := eq _ _ (yO_of _ _ _ T.1.1) (by omega)
  have ee : ∀ a, nd k e ps a → g a = h a := fun a ha => eq _ _ (yO_of _ _ _ (T.1.2.2 a ha).1) (by omega)
  refine ⟨⟨l, r, p, rt, lo, hi, ⟨(yW_c em).mpr T.1.1, by rw [yr_c em]; exact T.1.2.1, fun a ha => ?_⟩, T.2.1, fun a ha => by rw [yi_c (ee a ha)]; exact T.2.2 a ha⟩, by rw [yr_c em]; exact b2, by rw [yi_c em]; exact b3, fun i hi' => ?_, fun s hs' => ?_, fun s hs' => ?_, b7, b8⟩
  · obtain ⟨q1, q2, q3, q4⟩ := T.1.2.2 a ha
    exact ⟨(yW_c (ee a ha)).mpr q1, by rw [yr_c (ee a ha)]; exact q2, by rw [yr_c (ee a ha)]; exact q3, by rw [yr_c (ee a ha)]; exact q4⟩
  · have hn : nd k e ps (e i) := ⟨by rw [T.2.1.1 i hi']; exact hi', by rw [T.2.1.1 i hi']⟩
    obtain ⟨⟨kb, k1, k2, k3⟩, k4⟩ := b4 i hi'
    have ek := eq _ _ k2 (by omega)
    exact ⟨⟨kb, by rw [yr_c (ee _ hn)]; exact k1, (yO_c ek).mpr k2, by rw [yi_c ek]; exact k3⟩, by rw [yr_c (ee _ hn)]; exact k4⟩
  · rw [yr_c em] at hs'
    obtain ⟨q1, q2⟩ := b5 s hs'
    have ek := eq _ _ q1 (by omega)
    exact ⟨(yO_c ek).mpr q1, by rw [yr_c ek]; exact q2⟩
  · rw [yr_c em] at hs'
    obtain ⟨q1, q2⟩ := b6 s hs'
    have ek := eq _ _ q1 (by omega)
    exact ⟨(yO_c ek).mpr q1, by rw [yr_c ek]; exact q2⟩
theorem kBk.nd {h : xH} {m k y : Nat} {e ps V : Nat → Nat} (B : kBk h m k y e ps V) {x : Nat} (hx : nd k e ps x) : yO h 36 x := by
  obtain ⟨⟨l, r, p, rt, lo, hi, T⟩, -⟩ := B
  exact yO_of _ _ _ (T.1.2.2 x hx).1
theorem kBk.map {h : xH} {m k y : Nat} {e ps V : Nat → Nat} (B : kBk h m k y e ps V) : yO h 16 m := by
  obtain ⟨⟨l, r, p, rt, lo, hi, T⟩, -⟩ := B
  exact yO_of _ _ _ T.1.1
section HM
variable {Γ : Nat → Option Nat} {h : xH} {n p fe o a mb k y : Nat} {Y e ps V : Nat → Nat} {q : hP} {ts : List (Nat × Int32)}
/-- no cell of a herd's overlay has another class -/
theorem hv_nc {x c : Nat} (d : hD Y) (hx : yO (hV h Y p q) c x) (hc : c ≠ 19 ∧ c ≠ 24 ∧ c ≠ 22) : ∀ k, k < 5 → x ≠ Y k := by
  intro k hk
  rcases (show k = 0 ∨ k = 1 ∨ k = 2 ∨ k = 3 ∨ k = 4 by omega) with rfl | rfl | rfl | rfl | rfl
  · exact yO_ne hx ⟨true, by unfold yhd; rw [hv_0 d]; rfl⟩ hc.1
  · exact yOA_ne hx (t := 1) ⟨true, 13, by unfold yhd; rw [hv_1 d]; rfl⟩
  · exact yO_ne hx ⟨true, by unfold yhd; rw [hv_2 d]; rfl⟩ hc.2.1
  · exact yOA_ne hx (t := 1) ⟨true, 13, by unfold yhd; rw [hv_3 d]; rfl⟩
  · exact yO_ne hx ⟨true, by unfold yhd; rw [hv_4]; rfl⟩ hc.2.2
theorem k_hClose (d : hD Y) (hsp : kSp (hV h Y p q) p fe o a) (nf : ∀ k, k < 5 → fe ≠ Y k) (F : kFm (hV h Y p q) p ts) (hb : xbd n (hV h Y p q)) (hca : kCa Γ (hV h Y p q)) (r5 : yr (hV h Y p q) 20 5 p = some mb) (Bk : kBk (hV h Y p q) mb k y e ps V) (hk : k < 10000) (hy : y + k + 1 < 100000)
    (he : ∀ j, j < 4 → jB (qEnv (qNote (qAge q (yli (hV h Y p q) 1 fe) o) (isum q.f3 0 13)) o a (Int32.ofNat (y + k + 1)) (j + 1))) :
    ∃ h' n2 ne dc ds, xsel (some (Y 0)) [(19, fun z => fX6_close z (Int32.ofNat (y + k)))] Γ (hV h Y p q) n = some (.inl (), hV h' (yNew Y n2) p (qBeg (qNote (qAge q (yli (hV h Y p q) 1 fe) o) (isum q.f3 0 13)) (pVal (qEnv (qNote (qAge q (yli (hV h Y p q) 1 fe) o) (isum q.f3 0 13)) o a (Int32.ofNat (y + k + 1))) ts).1 (pVal (qEnv (qNote (qAge q (yli (hV h Y p q) 1 fe) o) (isum q.f3 0 13)) o a (Int32.ofNat (y + k + 1))) ts).2), dc, ds) ∧ dc ≤ 6 ∧ ds ≤ 40 ∧ n ≤ n2 ∧ n ≤ ne ∧ ne < n2 ∧ n2 < n + dc ∧ hD (yNew Y n2) ∧ (∀ Z, Z = hV h' (yNew Y n2) p (qBeg (qNote (qAge q (yli (hV h Y p q) 1 fe) o) (isum q.f3 0 13)) (pVal (qEnv (qNote (qAge q (yli (hV h Y p q) 1 fe) o) (isum q.f3 0 13)) o a (Int32.ofNat (y + k + 1))) ts).1 (pVal (qEnv (qNote (qAge q (yli (hV h Y p q) 1 fe) o) (isum q.f3 0 13)) o a (Int32.ofNat (y + k + 1))) ts).2) → xbd (n + dc) Z ∧ kBk Z mb (k + 1) y (va_up e k ne) (va_up ps ne k) (va_up V k (Y 4)) ∧ Z (Y 4) = some (hc4 (qNote (qAge q (yli (hV h Y p q) 1 fe) o) (isum q.f3 0 13))) ∧ ∀ x, hV h Y p q x ≠ none → x ≠ mb → ¬ nd k e ps x → (∀ j, j < 5 → x ≠ Y j) → Z x = hV h Y p q x) := by
  have np : ∀ k, k < 5 → p ≠ Y k := hv_nc d hsp.1 (by omega)
  generalize hq2 : qNote (qAge q (yli (hV h Y p q) 1 fe) o) (isum q.f3 0 13) = q2 at *
  have cl := hv_close (Γ := Γ) (n := n) (yy := Int32.ofNat (y + k)) d hsp np nf
  rw [hq2] at cl
  let G : xH := hV h Y p q
  let G1 : xH := hV h Y p q2
  have out : ∀ x, (∀ j, j < 5 → x ≠ Y j) → G1 x = G x := fun x hx => by
    show hV h Y p q2 x = hV h Y p q x
    rw [hv_o hx, hv_o hx]
  have eO : ∀ {c x : Nat}, yO G c x → (c ≠ 19 ∧ c ≠ 24 ∧ c ≠ 22) → G1 x = G x := fun hx hc => out _ (hv_nc d hx hc)
  have lt : ∀ j, j < 5 → Y j < n := by
    intro k hk
    refine xbd_lt hb ?_
    rcases (show k = 0 ∨ k = 1 ∨ k = 2 ∨ k = 3 ∨ k = 4 by omega) with rfl | rfl | rfl | rfl | rfl
    · rw [hv_0 d]; exact fun z => nomatch z
    · rw [hv_1 d]; exact fun z => nomatch z
    · rw [hv_2 d]; exact fun z => nomatch z
    · rw [hv_3 d]; exact fun z => nomatch z
    · rw [hv_4]; exact fun z => nomatch z
  have b1 : xbd n G1 := fun x hx => by
    rw [out x (fun j hj => by have := lt j hj; omega)]
    exact hb x hx
  have ca1 : kCa Γ G1 := by
    obtain ⟨ca, c1, c2, c3, c4⟩ := hca
    have ec : G1 ca = G ca := by
      by_cases z : ∀ j, j < 5 → ca ≠ Y j
      · exact out ca z
      · exfalso
        apply z
        intro j hj
        rcases (show j = 0 ∨ j = 1 ∨ j = 2 ∨ j = 3 ∨ j = 4 by omega) with rfl | rfl | rfl | rfl | rfl
        · exact (yOA_ne (c := 19) ⟨true, by unfold yhd; rw [hv_0 d]; rfl⟩ c2).symm
        · exact yA_ne c2 (u := 1) ⟨true, 13, by unfold yhd; rw [hv_1 d]; rfl⟩ (by omega)
        · exact (yOA_ne (c := 24) ⟨true, by unfold yhd; rw [hv_2 d]; rfl⟩ c2).symm
        · exact yA_ne c2 (u := 1) ⟨true, 13, by unfold yhd; rw [hv_3 d]; rfl⟩ (by omega)
        · exact (yOA_ne (c := 22) ⟨true, by unfold yhd; rw [hv_4]; rfl⟩ c2).symm
    refine ⟨ca, c1, (yA_c ec).mpr c2, (yln_c ec).trans c3, fun i hi => ?_⟩
    obtain ⟨oo, o1, o2, o3⟩ := c4 i hi
    have eo := eO o2 (by omega)
    exact ⟨oo, by rw [ylr_c ec]; exact o1, (yO_c eo).mpr o2, by rw [yi_c eo]; exact o3⟩
  have sp1 : kSp G1 p fe o a := hsp.cg (eO hsp.1 (by omega)) (out fe nf)
  have Bk1 : kBk G1 mb k y e ps V := Bk.cg (fun x c hx hc => eO hx (by omega))
  have F1 : kFm G1 p ts := F.cg (fun x c hx hc => eO hx (by omega))
  have g0 : xgR 19 0 (some (Y 0)) Γ G1 n = some (.inl (some p), G1, 0, 0) := hv_g0 d
  have g5 : xgR 20 5 (some p) Γ G1 n = some (.inl (some mb), G1, 0, 0) := by
    rw [e_gR sp1.1 kn20_5, yr_c (eO hsp.1 (by omega)), r5]
  obtain ⟨ka, g2, dc1, ds1, v1, v2, v3, v4, v5, v6, v7⟩ := k_valueOf (Γ := Γ) (v := y + k) ca1 b1 (by omega)
  have at2 : ∀ x c, G1 x = some c → g2 x = some c := fun x c hx => by rw [v4 x (by rw [hx]; exact fun z => nomatch z), hx]
  have hg2 : g2 = hV g2 Y p q2 := hv_ext d (at2 _ _ (hv_0 d)) (at2 _ _ (hv_1 d)) (at2 _ _ (hv_2 d)) (at2 _ _ (hv_3 d)) (at2 _ _ hv_4) (fun _ _ => rfl)
  have g6 : xgR 19 6 (some (Y 0)) Γ g2 (n + dc1) = some (.inl (some (Y 4)), g2, 0, 0) := by
    have := hv_g6 (Γ := Γ) (n := n + dc1) (h := g2) (p := p) (q := q2) d
    rw [← hg2] at this
    exact this
  obtain ⟨g3, u1, u2, u3, u4, u5⟩ := k_put (Γ := Γ) (va := Y 4) (Bk1.mono v4) v5 hk v6 v7 (by omega)
  have nY : ∀ j, j < 5 → Y j ≠ mb ∧ ¬ nd k e ps (Y j) ∧ Y j ≠ n + dc1 := fun j hj => ⟨fun z => hv_nc d Bk.map (by omega) j hj z.symm, fun z => hv_nc d (Bk.nd z) (by omega) j hj rfl, by have := lt j hj; omega⟩
  have at3 : ∀ j c, j < 5 → G1 (Y j) = some c → g3 (Y j) = some c := fun j c hj hx => (u3 _ (nY j hj).1 (nY j hj).2.1 (nY j hj).2.2).trans (at2 _ _ hx)
  have hg3 : g3 = hV g3 Y p q2 := hv_ext d (at3 0 _ (by omega) (hv_0 d)) (at3 1 _ (by omega) (hv_1 d)) (at3 2 _ (by omega) (hv_2 d)) (at3 3 _ (by omega) (hv_3 d)) (at3 4 _ (by omega) hv_4) (fun _ _ => rfl)
  have e13 : ∀ x, G1 x ≠ none → x ≠ mb → ¬ nd k e ps x → g3 x = G1 x := fun x hx h1 h2 => by
    have := xbd_lt b1 hx
    rw [u3 x h1 h2 (by omega), v4 x hx]
  have eO3 : ∀ {c x : Nat}, yO G1 c x → c ≠ 16 → c ≠ 36 → g3 x = G1 x := fun hx h1 h2 => e13 _ (yO_at hx) (yO_ne hx Bk1.map h1) (fun z => absurd (yO_uq (d := 36) hx (Bk1.nd z)) h2)
  have sp3 : kSp g3 p fe o a := sp1.cg (eO3 sp1.1 (by omega) (by omega)) (e13 fe (yA_at sp1.2.2.2.2.1) (fun z => yA_no sp1.2.2.2.2.1 (by rw [z]; exact Bk1.map)) (fun z => yA_no sp1.2.2.2.2.1 (Bk1.nd z)))
  have F3 : kFm g3 p ts := F1.cg (fun x c hx hc => eO3 hx (by omega) (by omega))
  rw [hg3] at sp3 F3 u5
  obtain ⟨h', dc2, ds2, w1, w2, w3, w4, w5, w6, w7⟩ := k_begin (Γ := Γ) (yy := Int32.ofNat (y + k + 1)) d sp3 nf F3 u5 he
  rw [← hg3] at w1 w7
  refine ⟨h', n + dc1 + 1, n + dc1, dc1 + 1 + dc2, ds1 + 6 + ds2, ?_, by omega, by omega, by omega, by omega, by omega, by omega, w6, fun Z hZ => ?_⟩
  · rw [cl, x_b1 g0, x_b1 g5, x_bc v1, x_b1 g6, x_bc u1, x_b1 (show xcst (fun c => c == 22) none Γ g3 (n + dc1 + 1) = some (.inl (), g3, 0, 0) from rfl), show Int32.ofNat (y + k) + (1 : Int32) = Int32.ofNat (y + k + 1) from i_addl 1 (y + k), x_bc w1]
    show some (_, _, dc1 + (1 + (dc2 + 0)), ds1 + (6 + (ds2 + 0))) = some (_, _, dc1 + 1 + dc2, ds1 + 6 + ds2)
    rw [show dc1 + (1 + (dc2 + 0)) = dc1 + 1 + dc2 by omega, show ds1 + (6 + (ds2 + 0)) = ds1 + 6 + ds2 by omega]
  · subst hZ
    refine ⟨by rw [show n + (dc1 + 1 + dc2) = n + dc1 + 1 + dc2 by omega]; exact w5, ?_, ?_, fun x hx h1 h2 h3 => ?_⟩
    · refine u2.cg (fun x c hx hc => w7 x (yO_at hx) (fun z => ?_))
      have y0 : yO g3 19 (Y 0) := ⟨true, by unfold yhd; rw [at3 0 _ (by omega) (hv_0 d)]; rfl⟩
      exact absurd (yO_uq (d := 19) hx (by rw [z]; exact y0)) (by omega)
    · have g4 : g3 (Y 4) = some (hc4 q2) := at3 4 _ (by omega) hv_4
      rw [w7 (Y 4) (by rw [g4]; exact fun z => nomatch z) (fun z => absurd (d 4 0 (by omega) (by omega) z) (by omega)), g4]
    · have e1 : G1 x = G x := out x h3
      have gx : G1 x ≠ none := by rw [e1]; exact hx
      have e3 := e13 x gx h1 h2
      rw [w7 x (by rw [e3]; exact gx) (h3 0 (by omega)), e3, e1]
end HM
