/-! part 599: the plans of a year are carried out -/
theorem xu_sub {h U : xH} : hsub h (xu h U) := fun a ha => by
  cases hc : h a with
  | none => exact absurd hc ha
  | some c => exact xu_some hc
theorem xu_up2 {h U : xH} {a : Nat} {c : xAC} (ha : h a = none) : xupd (xu h U) a c = xu h (xupd U a c) := by
  funext q
  unfold xupd
  by_cases e : q = a
  · rw [if_pos e, e, xu_none ha]
    exact (if_pos rfl).symm
  · rw [if_neg e]
    unfold xu
    cases h q with
    | none => exact (if_neg e).symm
    | some c => rfl
theorem xu_kQu {h U : xH} {qu qa cm c : Nat} {mc : Int32} {f : Nat → Option Nat} (hu : h qu = none) (ha : h qa = none) : kQu (xu h U) qu qa cm c mc f = xu h (kQu U qu qa cm c mc f) := by
  unfold kQu kQA
  rw [xu_up2 hu, xu_up2 ha]
/-- totals are not negative; without animals there are no marks -/
def gTm (N : Nat → Int32) : Prop := ∀ s, s < nn (N 0) → 0 ≤ (pTot N s (nn (N (zI s 1)))).toInt ∧ (pTot N s (nn (N (zI s 1))) = 0 → N (zI s 4) = 0)
section SL
variable {Γ : Nat → Option Nat} {n m0 mm x hi dep qu qa cm c : Nat} {Dh P FE mx B0 M0 κ : Nat → Nat} {a : Nat → Nat → Nat} {E : Nat → Nat → Nat → Nat} {N0 : Nat → Int32} {mx0 : Nat}
theorem k_close7 (hG : ∀ N, okN N → gTm N → 0 < nn (N 3) → gTm (pRem (pCarry N) 0 (nn (N 3)))) (d : qu ≠ qa) (d1 : cm ≠ qu) (d2 : cm ≠ qa) (qm : m0 ≤ qu ∧ m0 ≤ qa ∧ m0 ≤ cm) (hκ : ∀ j, j < c → κ (B0 j) = pKy (pRw N0 j) (M0 j)) :
    ∀ (r k fu : Nat) (h0 U : xH) (mc cn : Int32) (q : Nat → Nat) (Nn : Nat → Nat → Int32) (D T B M : Nat → Nat → Nat), k + r = c → r < fu → nn (Nn dep 3) = r → kRec n m0 h0 x hi dep Dh a E P FE Nn mx D T B M → kPr h0 N0 c mx0 B0 M0 → (∀ j, j < r → B dep j = B0 (k + j)) → gTm (Nn dep) → U qu = some (kQc qa cm r mc) → U qa = some (true, .inl (5, 12, .inr (.inr (.inr (.inr (kF q r)))))) → yO U 34 cm → kQB κ B0 q k c →
    ∃ h0' U' Nn' D' T' B' M', fX2_close_p7 fu (a dep 0) (some qu) cn Γ (xu h0 U) mm = fX2_close_p81 (a dep 0) (pAll r (Nn dep) cn).2 Γ (xu h0' U') mm ∧ kRec n m0 h0' x hi dep Dh a E P FE Nn' mx D' T' B' M' ∧ Nn' dep = (pAll r (Nn dep) cn).1 ∧ (∀ i, i ≠ dep → Nn' i = Nn i ∧ D' i = D i ∧ T' i = T i ∧ B' i = B i ∧ M' i = M i) ∧ (∀ q, q ≤ n → h0' q = h0 q) ∧ gTm (Nn' dep) ∧ ∀ z, xbd z (xu h0 U) → xbd z (xu h0' U') := by
  intro r
  induction r with
  | zero =>
    intro k fu h0 U mc cn q Nn D T B M hk hf h3 R P0 hB gt uu ua uc Q
    obtain ⟨fu, rfl⟩ : ∃ g, fu = g + 1 := ⟨fu - 1, by omega⟩
    have hb := R.2.2.2.2.2.2.2.2
    have nu := hb qu qm.1
    have na := hb qa qm.2.1
    have eH : kQu (xu h0 U) qu qa cm 0 mc (kF q 0) = xu h0 U := kq_id ((xu_none nu).trans uu) ((xu_none na).trans ua)
    have em := k_qEmpty (Γ := Γ) (n := mm) (h := xu h0 U) (cm := cm) (c := 0) (mc := mc) (f := kF q 0) d (by omega)
    rw [eH, if_pos rfl] at em
    refine ⟨h0, U, Nn, D, T, B, M, ?_, R, rfl, fun i _ => ⟨rfl, rfl, rfl, rfl, rfl⟩, fun _ _ => rfl, gt, fun _ z => z⟩
    rw [fX2_close_p7, x_b1 em, if_neg (by decide)]
    rfl
  | succ r ih =>
    intro k fu h0 U mc cn q Nn D T B M hk hf h3 R P0 hB gt uu ua uc Q
    obtain ⟨fu, rfl⟩ : ∃ g, fu = g + 1 := ⟨fu - 1, by omega⟩
    have hb := R.2.2.2.2.2.2.2.2
    have nu := hb qu qm.1
    have na := hb qa qm.2.1
    have nc := hb cm qm.2.2
    have c12 := P0.1
    have F := R.now
    have ok := F.2.2.2.1
    have ck : c - k = r + 1 := by omega
    have eH : kQu (xu h0 U) qu qa cm (r + 1) mc (kF q (r + 1)) = xu h0 U := kq_id ((xu_none nu).trans uu) ((xu_none na).trans ua)
    have em := k_qEmpty (Γ := Γ) (n := mm) (h := xu h0 U) (cm := cm) (c := r + 1) (mc := mc) (f := kF q (r + 1)) d (by omega)
    have pk := k_qPeek (Γ := Γ) (n := mm) (h := xu h0 U) (cm := cm) (c := r + 1) (mc := mc) (f := kF q (r + 1)) d
    rw [eH, if_neg (show ¬ r + 1 = 0 by omega)] at em
    rw [eH] at pk
    have C : kCq Γ (xu h0 U) qu qa cm (fun z => ∃ j, j < c ∧ z = B0 j) κ := kCq_of P0 (fun z hz _ _ => xu_sub z hz) (fun cc _ z => yO_at z nu) (fun cc z => yO_at z na) ((yO_c (xu_none nc)).mpr uc) d1 d2 hκ
    have mo : ∀ i j, i < j → j < c → κ (B0 i) < κ (B0 j) := fun i j ij jc => by
      rw [hκ i (by omega), hκ j jc]
      exact P0.2.2 i j ij jc
    obtain ⟨q', mc', p1, p2, p3⟩ := k_pollB (n := mm) (mc := mc) C d c12 (show k < c by omega) mo Q
    rw [ck, eH, show c - (k + 1) = r by omega, xu_kQu nu na] at p1
    have f0 : kF q (r + 1) 0 = some (B0 k) := by unfold kF; rw [if_pos (by omega), p3]
    rw [f0] at pk
    have b0 : B dep 0 = B0 k := hB 0 (by omega)
    have Pl := (F.2.1.2.1.2.1 0 (by rw [h3]; omega)).1
    rw [b0] at Pl
    have oP := Pl.1
    have oS := yO_of _ _ _ F.1.1
    have gI : ∀ (V : xH) (j : Nat) (v : Int32), (ykn 38)[j]? = some 0 → yi h0 38 j (B0 k) = v → xgI 38 j (some (B0 k)) Γ (xu h0 V) mm = some (.inl v, xu h0 V, 0, 0) := fun V j v hj hv => by
      rw [e_gI (hO oP xu_sub) hj, yi_c (xu_sub _ (yO_at oP)), hv]
    have gy : xgI 1 2 (some (a dep 0)) Γ (xu h0 U) mm = some (.inl (Nn dep 1), xu h0 U, 0, 0) := by
      rw [e_gI (hO oS xu_sub) kn1_2, yi_c (xu_sub _ (yO_at oS)), F.1.2.2.2.1]
    rw [fX2_close_p7, x_b1 em, if_pos rfl, x_b1 pk, x_b1 (k_cst (hO oP xu_sub) rfl), x_b1 (gI U 0 _ kn38_0 Pl.2.1), x_b1 gy]
    by_cases cy : Nn dep 4 = Nn dep 1
    · have e4 : pAll (r + 1) (Nn dep) cn = pAll r (pRem (pCarry (Nn dep)) 0 (r + 1)) (cn + Int32.ofNat 1) := by
        conv => lhs; unfold pAll
        rw [if_pos cy]
      rw [if_pos (show pRw (Nn dep) 0 0 = Nn dep 1 from cy), x_b1 p1]
      obtain ⟨kc, kc1, kc2⟩ := Pl.2.2.1
      let U1 : xH := kQu U qu qa cm r mc' (kF q' r)
      have H1 := R.1.mono (xu_sub (h := h0) (U := U1))
      have W := H1.w
      have hc : 0 < nn (Nn dep 3) := by omega
      have hp := ok.2.2.2.2.2.2.2.2.2 0 hc
      unfold okP at hp
      simp only [Nat.mul_zero, Nat.add_zero, Nat.reduceAdd] at hp
      obtain ⟨o1, o2, o3, o4⟩ := hp
      have g1 : xgR 38 1 (some (B0 k)) Γ (xu h0 U1) mm = some (.inl (some kc), xu h0 U1, 0, 0) := by
        rw [e_gR (hO oP xu_sub) kn38_1, yr_c (xu_sub _ (yO_at oP)), kc1]
      have e6 : Nn dep 6 = Int32.ofNat (nn (Nn dep 6)) := o1
      have gg := kw_get (Γ := Γ) (n := mm) W o2
      rw [← e6] at gg
      obtain ⟨t1, t2⟩ := gt _ o2
      obtain ⟨h1, s1, R1, ch, s4⟩ := k_carry (Γ := Γ) (mm := mm) R hc kc2 t1 t2
      have lc := (xL_sel (r := some kc) (xLs_cons (fun z => xl_fX23_carryOut z _ _ _) (xLs_cons (fun z => xl_fX24_carryOut z _ _ _) (xLs_cons (fun z => xl_fX25_carryOut z _ _ _) xLs_nil))) Γ h0 mm _ h1 0 0 s1).1 U1
      have n3 : nn (pCarry (Nn dep) 3) = r + 1 := by rw [ch.hd (by omega), h3]
      have cm1 : va_up Nn dep (pCarry (Nn dep)) dep = pCarry (Nn dep) := by rw [va_ap, if_pos rfl]
      obtain ⟨h2, D1, T1, u1, R2, u3, u4⟩ := R1.drop (Γ := Γ) (mm := mm) (k := 0) (by rw [cm1, n3]; omega)
      rw [b0] at u1
      rw [cm1, n3, va_uu] at R2
      rw [cm1, n3] at u3
      have ld := (xL_sel (r := some (a dep 0)) (xLs_cons (fun z => xl_fX2_drop z (some (B0 k))) xLs_nil) Γ h1 mm _ h2 0 0 u1).1 U1
      have Kt := F.1.2.2.2.2.2.2.2.2.2.2.2 _ o2
      have F1 := R1.now
      have L1 := F1.2.1.1
      rw [cm1, n3] at L1
      have P2 : kPr h2 N0 c mx0 B0 M0 := by
        have Pa : kPr h1 N0 c mx0 B0 M0 := P0.cg (fun z cc hz hcc => s4 z (fun j hj => Kt.nc hz (by omega) j (by omega)))
        exact Pa.cg (fun z cc hz hcc => u3 z (yO_ne hz (yO_of _ _ _ L1.1) (by omega)) (fun j hj => yO_ne hz (yO_of _ _ _ (L1.2.2.2.2.2.1 j hj).1) (by omega)))
      have gt2 := hG (Nn dep) ok gt hc
      rw [h3] at gt2
      have e2 : va_up Nn dep (pRem (pCarry (Nn dep)) 0 (r + 1)) dep = pRem (pCarry (Nn dep)) 0 (r + 1) := by rw [va_ap, if_pos rfl]
      have e3 : nn (pRem (pCarry (Nn dep)) 0 (r + 1) 3) = r := by
        unfold pRem
        rw [if_pos rfl, Nat.add_sub_cancel, nn_of (by omega)]
      obtain ⟨h3', U', Nn', D', T', B', M', r1, r2, r3, r4, r5, r6, r7⟩ := ih (k + 1) fu h2 U1 mc' (cn + Int32.ofNat 1) q' _ _ _ _ _ (by omega) (by omega) (by rw [e2]; exact e3) R2 P2 (fun j hj => by
        rw [va_ap, if_pos rfl]
        unfold fRem
        rw [if_neg (by omega), hB (j + 1) (by omega), show k + (j + 1) = k + 1 + j by omega]) (by rw [e2]; exact gt2) (kq_at d) (by show kQA _ _ _ qa = _; unfold kQA; rw [up_self]) ((yO_c (kq_o d1 d2)).mpr uc) p2
      rw [e2] at r1 r3
      refine ⟨h3', U', Nn', D', T', B', M', ?_, r2, by rw [e4]; exact r3, fun i hi' => ?_, fun z hz => ?_, r6, fun z hz => r7 z (fun w hw => ?_)⟩
      · have i1 : (1 : Int32) = Int32.ofNat 1 := rfl
        rw [x_b1 (k_cst (hO oP xu_sub) rfl), x_b1 g1, x_b1 (kw_al W), x_b1 (gI U1 2 (Nn dep 6) kn38_2 Pl.2.2.2.1), x_b1 gg, x_b1 (kw_cst W o2), x_b1 (gI U1 3 (Nn dep 7) kn38_3 Pl.2.2.2.2.1), x_b1 (gI U1 4 (Nn dep 8) kn38_4 Pl.2.2.2.2.2.1), x_b1 lc, x_b1 ld, xlet_ap, i1, r1, e4]
      · obtain ⟨q1, q2, q3, q4, q5⟩ := r4 i hi'
        rw [va_ap, if_neg hi'] at q1 q2 q3 q4 q5
        exact ⟨q1, q2, q3, q4, q5⟩
      · have Fr := R.2.2.2.2.1
        have a3 := R.2.2.2.1 3
        have Dn := R1.2.2.2.2.2.1
        rw [cm1, n3] at Dn
        rw [r5 z hz, u3 z (by omega) (fun j hj => by have := Dn j hj; omega), s4 z (fun j hj => by have := (Fr.1 _ j o2 (show j < 7 by omega)).1; omega)]
      · have zw := hz w hw
        have h0w : h0 w = none := by
          cases hcw : h0 w with
          | none => rfl
          | some cc => rw [xu_some hcw] at zw; nomatch zw
        have Uw : U w = none := by rw [xu_none h0w] at zw; exact zw
        have h1w : h1 w = none := by
          rw [s4 w (fun j hj z => Kt.at j (by omega) (by rw [← z]; exact h0w))]
          exact h0w
        have h2w : h2 w = none := by
          have := u4 w
          unfold yhd at this
          rw [h1w] at this
          simpa using this
        rw [xu_none h2w]
        show kQu U qu qa cm r mc' (kF q' r) w = none
        rw [kq_o (fun z => by rw [z, uu] at Uw; nomatch Uw) (fun z => by rw [z, ua] at Uw; nomatch Uw)]
        exact Uw
    · have e4 : pAll (r + 1) (Nn dep) cn = (Nn dep, cn) := by
        conv => lhs; unfold pAll
        rw [if_neg cy]
      rw [if_neg (show ¬ pRw (Nn dep) 0 0 = Nn dep 1 from cy), e4]
      exact ⟨h0, U, Nn, D, T, B, M, rfl, R, rfl, fun i _ => ⟨rfl, rfl, rfl, rfl, rfl⟩, fun _ _ => rfl, gt, fun _ z => z⟩
end SL
