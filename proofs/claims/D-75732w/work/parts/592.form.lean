/-! part 592: the component's formulas -/
/-- the node a, of depth below d, is the formula with the words ts -/
def kNo (h : xH) : Nat → Nat → List (Nat × Int32) → Prop
  | 0, _, _ => False
  | d + 1, a, ts => (∃ v : Int32, yO h 21 a ∧ yj h 21 0 a = v.toInt64 ∧ 0 ≤ v.toInt ∧ v.toInt ≤ 999999 ∧ ts = [(0, v)]) ∨ (∃ (c k : Nat) (w : Int32), yO h 26 a ∧ yr h 26 0 a = some c ∧ k < 4 ∧ yO h (40 + k) c ∧ ts = [(k + 1, w)]) ∨ ∃ (c k l r : Nat) (w : Int32) (t1 t2 : List (Nat × Int32)), yO h 27 a ∧ yr h 27 0 a = some c ∧ k < 6 ∧ yO h (44 + k) c ∧ yr h 27 1 a = some l ∧ yr h 27 2 a = some r ∧ kNo h d l t1 ∧ kNo h d r t2 ∧ ts = t1 ++ t2 ++ [(5 + k, w)]
def jB (v : Int64) : Prop := -1000000000 ≤ v.toInt ∧ v.toInt ≤ 1000000000
theorem plim_int (v : Int64) : (plim v).toInt = max (-1000000000) (min 1000000000 v.toInt) := by
  unfold plim
  rw [jmax_int, jmin_int]
  rfl
theorem plim_B (v : Int64) : jB (plim v) := by
  unfold jB
  rw [plim_int]
  omega
theorem plim_id {v : Int64} (h : jB v) : plim v = v := by
  apply Int64.toInt_inj.mp
  rw [plim_int]
  unfold jB at h
  omega
section FO
variable {Γ : Nat → Option Nat} {h : xH} {fa : Nat} {env : Nat → Int64}
/-- how a node is run -/
def kRun (D a fa : Nat) : xM Int64 := xsel (some a) [(21, fun z => fX8_value z (some fa)), (26, fun z => fX11_value z (some fa)), (27, fun z => fX12_value D z (some fa))]
/-- a node's value, or what is thrown -/
def kVal (Γ : Nat → Option Nat) (h : xH) (c : xM Int64) (v : Int64) (fl : Bool) : Prop := ∀ (g : xH) (m : Nat), hsub h g → xbd m g → (fl = false → c Γ g m = some (.inl v, g, 0, 0)) ∧ (fl = true → ∃ g', c Γ g m = some (.inr m, g', 1, 6) ∧ hsub g g' ∧ xbd (m + 1) g' ∧ yO g' 29 m)
theorem k_zero {g : xH} {m : Nat} (hb : xbd m g) : ∃ g', (xbind (xnew 29 [.null, .null, .null, .null, .null, .int 0] 6) fun v6 => xbind (fX14_init v6) fun _ => (xthrow (some v6) : xM Int64)) Γ g m = some (.inr m, g', 1, 6) ∧ hsub g g' ∧ xbd (m + 1) g' ∧ yO g' 29 m := by
  let c0 : xAC := (true, .inr (29, [va_rf none, va_rf none, va_rf none, va_rf none, .null, .int 0]))
  refine ⟨xupd g m c0, ?_, hsub_up (hb m (Nat.le_refl _)), xbd_up1 hb, ⟨true, by unfold yhd; rw [up_self]; rfl⟩⟩
  have w : ∀ (k : Nat) (fs : List Value) (v : Value), k < fs.length → xput 29 k (some m) v Γ (xupd g m (true, .inr (29, fs))) (m + 1) = some (.inl (), xupd g m (true, .inr (29, fs.set k v)), 0, 0) := fun k fs v hk => o1_p hk
  have e3 : fJ3_init_4__X14 m none none (0 : Int32) (0 : Int32) Γ (xupd g m (true, .inr (29, [.null, .null, .null, .null, .null, .int 0]))) (m + 1) = some (.inl (), xupd g m c0, 0, 0) := by
    unfold fJ3_init_4__X14
    rw [x_b1 (w 0 _ _ (by simp)), x_b1 (show xcon 18 Γ _ (m + 1) = some (.inl (Γ 18), _, 0, 0) from rfl), x_b1 (w 1 _ _ (by simp)), x_b1 (show xcon 19 Γ _ (m + 1) = some (.inl (Γ 19), _, 0, 0) from rfl), x_b1 (w 2 _ _ (by simp)), if_pos rfl, x_b1 (w 1 _ _ (by simp))]
    unfold fJ3_init_4__X14_p41
    rw [x_b1 (w 3 _ _ (by simp)), x_b1 (w 0 _ _ (by simp)), if_pos rfl, x_b1 (w 2 _ _ (by simp))]
    rfl
  have e4 : fX14_init m Γ (xupd g m (true, .inr (29, [.null, .null, .null, .null, .null, .int 0]))) (m + 1) = some (.inl (), xupd g m c0, 0, 0) := by
    unfold fX14_init
    rw [x_b1 (show fJ4_init_4__X14 m none none (0 : Int32) (0 : Int32) Γ _ (m + 1) = some (.inl (), xupd g m c0, 0, 0) by
      unfold fJ4_init_4__X14
      rw [x_b1 e3]
      rfl)]
    rfl
  rw [x_bc (show xnew 29 [.null, .null, .null, .null, .null, .int 0] 6 Γ g m = some (.inl m, xupd g m (true, .inr (29, [.null, .null, .null, .null, .null, .int 0])), 1, 6) from rfl), x_b1 e4]
  have ho : xobj (xupd g m c0) (some m) = some (m, 29, [va_rf none, va_rf none, va_rf none, va_rf none, .null, .int 0]) := o1_obj
  unfold xthrow
  rw [ho]
  rfl
theorem lg_0 {b : Int64} : lg_cmp b (0 : Int64) = 0 ↔ b = 0 := by
  unfold lg_cmp
  by_cases c1 : b > 0
  · rw [if_pos c1]
    refine ⟨fun z => absurd z (by decide), fun z => ?_⟩
    rw [z] at c1
    exact absurd c1 (by decide)
  · rw [if_neg c1]
    by_cases c2 : b = 0
    · rw [if_pos c2]; exact ⟨fun _ => c2, fun _ => rfl⟩
    · rw [if_neg c2]; exact ⟨fun z => absurd z (by decide), fun z => absurd z c2⟩
/-- one sign at work -/
theorem k_sign {c k : Nat} {x y : Int64} (hk : k < 6) (hc : yO h (44 + k) c) (bx : jB x) (by' : jB y) : ∃ v, (plim v = pWork (5 + k) x y ∨ pFlt (5 + k) y = true) ∧ kVal Γ h (xsel (some c) [(44, fun z => fX26_of z x y), (45, fun z => fX27_of z x y), (46, fun z => fX28_of z x y), (47, fun z => fX29_of z x y), (48, fun z => fX30_of z x y), (49, fun z => fX31_of z x y)]) v (pFlt (5 + k) y) := by
  have mB : ∀ a b : Int64, jB a → jB b → jB (jmin a b) ∧ jB (jmax a b) := fun a b ha hb => by
    unfold jB at *
    rw [jmin_int, jmax_int]
    omega
  rcases (show k = 0 ∨ k = 1 ∨ k = 2 ∨ k = 3 ∨ k = 4 ∨ k = 5 by omega) with rfl | rfl | rfl | rfl | rfl | rfl
  · refine ⟨x + y, Or.inl (by unfold pWork; rw [if_pos rfl]), fun g m hs hb => ⟨fun _ => ?_, fun z => absurd z (by simp [pFlt])⟩⟩
    rw [e_sel (hO hc hs)]; rfl
  · refine ⟨x - y, Or.inl (by unfold pWork; rw [if_neg (by omega), if_pos rfl]), fun g m hs hb => ⟨fun _ => ?_, fun z => absurd z (by simp [pFlt])⟩⟩
    rw [e_sel2 (hO hc hs) (by omega), e_sel (hO hc hs)]; rfl
  · refine ⟨x * y, Or.inl (by unfold pWork; rw [if_neg (by omega), if_neg (by omega), if_pos rfl]), fun g m hs hb => ⟨fun _ => ?_, fun z => absurd z (by simp [pFlt])⟩⟩
    rw [e_sel2 (hO hc hs) (by omega), e_sel2 (hO hc hs) (by omega), e_sel (hO hc hs)]; rfl
  · by_cases c0 : y = 0
    · refine ⟨0, Or.inr (by simp [pFlt, c0]), fun g m hs hb => ⟨fun z => absurd z (by simp [pFlt, c0]), fun _ => ?_⟩⟩
      rw [e_sel2 (hO hc hs) (by omega), e_sel2 (hO hc hs) (by omega), e_sel2 (hO hc hs) (by omega), e_sel (hO hc hs)]
      unfold fX29_of
      rw [if_pos (lg_0.mpr c0)]
      exact k_zero hb
    · refine ⟨x / y, Or.inl (by unfold pWork; rw [if_neg (by omega), if_neg (by omega), if_neg (by omega), if_pos rfl, if_neg c0]), fun g m hs hb => ⟨fun _ => ?_, fun z => absurd z (by simp [pFlt, c0])⟩⟩
      rw [e_sel2 (hO hc hs) (by omega), e_sel2 (hO hc hs) (by omega), e_sel2 (hO hc hs) (by omega), e_sel (hO hc hs)]
      unfold fX29_of xdvJ
      rw [if_neg (fun z => c0 (lg_0.mp z)), if_neg c0]
      rfl
  · refine ⟨jmin x y, Or.inl (by unfold pWork; rw [if_neg (by omega), if_neg (by omega), if_neg (by omega), if_neg (by omega), if_pos rfl]; exact plim_id (mB x y bx by').1), fun g m hs hb => ⟨fun _ => ?_, fun z => absurd z (by simp [pFlt])⟩⟩
    rw [e_sel2 (hO hc hs) (by omega), e_sel2 (hO hc hs) (by omega), e_sel2 (hO hc hs) (by omega), e_sel2 (hO hc hs) (by omega), e_sel (hO hc hs)]
    unfold fX30_of
    rw [x_b1 (i_jm _ _ _ _ _)]; rfl
  · refine ⟨jmax x y, Or.inl (by unfold pWork; rw [if_neg (by omega), if_neg (by omega), if_neg (by omega), if_neg (by omega), if_neg (by omega)]; exact plim_id (mB x y bx by').2), fun g m hs hb => ⟨fun _ => ?_, fun z => absurd z (by simp [pFlt])⟩⟩
    rw [e_sel2 (hO hc hs) (by omega), e_sel2 (hO hc hs) (by omega), e_sel2 (hO hc hs) (by omega), e_sel2 (hO hc hs) (by omega), e_sel2 (hO hc hs) (by omega), e_sel (hO hc hs)]
    unfold fX31_of
    rw [x_b1 (i_jx _ _ _ _ _)]; rfl
theorem pWork_B {k : Nat} {x y : Int64} (bx : jB x) (by' : jB y) : jB (pWork k x y) := by
  unfold pWork
  split
  · exact plim_B _
  · split
    · exact plim_B _
    · split
      · exact plim_B _
      · split
        · split
          · unfold jB; decide
          · exact plim_B _
        · unfold jB at *
          split
          · rw [jmin_int]; omega
          · rw [jmax_int]; omega
/-- a node's value is that of its words -/
theorem k_node (hf : yO h 28 fa) (he : ∀ j, j < 4 → yj h 28 j fa = env (j + 1) ∧ jB (env (j + 1))) : ∀ (d a : Nat) (ts : List (Nat × Int32)), kNo h d a ts → ∃ v fl, (∀ rest st f, pEv env (ts ++ rest) st f = pEv env rest (v :: st) (f || fl)) ∧ jB v ∧ ∀ D, d ≤ D + 1 → kVal Γ h (kRun D a fa) v fl := by
  intro d
  induction d with
  | zero => intro a ts h0; exact absurd h0 (fun z => z)
  | succ d ih =>
    intro a ts h0
    rcases h0 with ⟨v, h1, h2, h3, h4, h5⟩ | ⟨c, k, w, h1, h2, h3, h4, h5⟩ | ⟨c, k, l, r, w, t1, t2, h1, h2, h3, h4, h5, h6, h7, h8, h9⟩
    · refine ⟨v.toInt64, false, fun rest st f => ?_, ?_, fun D hD g m hs hb => ⟨fun _ => ?_, fun z => nomatch z⟩⟩
      · rw [h5, List.singleton_append]
        conv => lhs; unfold pEv
        rw [if_pos (by omega), if_pos rfl, Bool.or_false]
      · unfold jB
        rw [Int32.toInt_toInt64]
        omega
      · have q := e_gJ (Γ := Γ) (n := m) (hO h1 hs) kn21_0
        rw [yj_c (hs _ (yO_at h1)), h2] at q
        unfold kRun
        rw [e_sel (hO h1 hs)]
        unfold fX8_value
        rw [x_b1 q]
        rfl
    · refine ⟨env (k + 1), false, fun rest st f => ?_, (he k h3).2, fun D hD g m hs hb => ⟨fun _ => ?_, fun z => nomatch z⟩⟩
      · rw [h5, List.singleton_append]
        conv => lhs; unfold pEv
        rw [if_pos (by omega), if_neg (by omega), Bool.or_false]
      · have q := e_gR (Γ := Γ) (n := m) (hO h1 hs) kn26_0
        rw [yr_c (hs _ (yO_at h1)), h2] at q
        have oc := hO h4 hs
        have of := hO hf hs
        unfold kRun
        rw [e_sel2 (hO h1 hs) (by omega), e_sel (hO h1 hs)]
        unfold fX11_value
        rw [x_b1 q]
        have fin : ∀ (k : Nat) (hk : k < 4), k = k → (ykn 28)[k]? = some 1 → xgJ 28 k (some fa) Γ g m = some (.inl (env (k + 1)), g, 0, 0) := fun k hk _ hkn => by
          rw [e_gJ of hkn, yj_c (hs _ (yO_at hf)), (he k hk).1]
        rcases (show k = 0 ∨ k = 1 ∨ k = 2 ∨ k = 3 by omega) with rfl | rfl | rfl | rfl
        · rw [x_b1 (show xsel (some c) [(40, fun z => fX19_of z (some fa)), (41, fun z => fX20_of z (some fa)), (42, fun z => fX21_of z (some fa)), (43, fun z => fX22_of z (some fa))] Γ g m = some (.inl (env (0 + 1)), g, 0, 0) by
            rw [e_sel oc]
            unfold fX19_of
            rw [x_b1 (fin 0 (by omega) rfl kn28_0)]
            rfl)]
          rfl
        · rw [x_b1 (show xsel (some c) [(40, fun z => fX19_of z (some fa)), (41, fun z => fX20_of z (some fa)), (42, fun z => fX21_of z (some fa)), (43, fun z => fX22_of z (some fa))] Γ g m = some (.inl (env (1 + 1)), g, 0, 0) by
            rw [e_sel2 oc (by omega), e_sel oc]
            unfold fX20_of
            rw [x_b1 (fin 1 (by omega) rfl kn28_1)]
            rfl)]
          rfl
        · rw [x_b1 (show xsel (some c) [(40, fun z => fX19_of z (some fa)), (41, fun z => fX20_of z (some fa)), (42, fun z => fX21_of z (some fa)), (43, fun z => fX22_of z (some fa))] Γ g m = some (.inl (env (2 + 1)), g, 0, 0) by
            rw [e_sel2 oc (by omega), e_sel2 oc (by omega), e_sel oc]
            unfold fX21_of
            rw [x_b1 (fin 2 (by omega) rfl kn28_2)]
            rfl)]
          rfl
        · rw [x_b1 (show xsel (some c) [(40, fun z => fX19_of z (some fa)), (41, fun z => fX20_of z (some fa)), (42, fun z => fX21_of z (some fa)), (43, fun z => fX22_of z (some fa))] Γ g m = some (.inl (env (3 + 1)), g, 0, 0) by
            rw [e_sel2 oc (by omega), e_sel2 oc (by omega), e_sel2 oc (by omega), e_sel oc]
            unfold fX22_of
            rw [x_b1 (fin 3 (by omega) rfl kn28_3)]
            rfl)]
          rfl
    · obtain ⟨v1, f1, p1, b1, r1⟩ := ih l t1 h7
      obtain ⟨v2, f2, p2, b2, r2⟩ := ih r t2 h8
      obtain ⟨vv, s1, s2⟩ := k_sign (Γ := Γ) h3 h4 b1 b2
      refine ⟨pWork (5 + k) v1 v2, (f1 || f2) || pFlt (5 + k) v2, fun rest st f => ?_, pWork_B b1 b2, fun D hD g m hs hb => ?_⟩
      · rw [h9, List.append_assoc, List.append_assoc, p1, p2, List.singleton_append]
        conv => lhs; unfold pEv
        rw [if_neg (by omega)]
        dsimp only
        rw [Bool.or_assoc, Bool.or_assoc, Bool.or_assoc]
      · obtain ⟨D', rfl⟩ : ∃ q, D = q + 1 := by
          cases d with
          | zero => exact absurd h7 (fun z => z)
          | succ d => exact ⟨D - 1, by omega⟩
        have g0 := e_gR (Γ := Γ) (n := m) (hO h1 hs) kn27_0
        have g1 := e_gR (Γ := Γ) (n := m) (hO h1 hs) kn27_1
        have g2 := e_gR (Γ := Γ) (n := m) (hO h1 hs) kn27_2
        rw [yr_c (hs _ (yO_at h1)), h2] at g0
        rw [yr_c (hs _ (yO_at h1)), h5] at g1
        rw [yr_c (hs _ (yO_at h1)), h6] at g2
        have st : kRun (D' + 1) a fa Γ g m = (xbind (kRun D' l fa) fun v9 => xbind (xgR 27 2 (some a)) fun v15 => xbind (xsel v15 [(21, fun z => fX8_value z (some fa)), (26, fun z => fX11_value z (some fa)), (27, fun z => fX12_value D' z (some fa))]) fun v19 => xbind (xsel (some c) [(44, fun z => fX26_of z v9 v19), (45, fun z => fX27_of z v9 v19), (46, fun z => fX28_of z v9 v19), (47, fun z => fX29_of z v9 v19), (48, fun z => fX30_of z v9 v19), (49, fun z => fX31_of z v9 v19)]) fun v24 => xbind (fJ12_min_2 (1000000000 : Int64) v24) fun v35 => xbind (fJ12_max_2 (-1000000000 : Int64) v35) fun v38 => xpure v38) Γ g m := by
          unfold kRun
          rw [e_sel2 (hO h1 hs) (by omega), e_sel2 (hO h1 hs) (by omega), e_sel (hO h1 hs), fX12_value]
          unfold fX12_value_b
          rw [x_b1 g0, x_b1 g1]
        have A := r1 D' (by omega) g m hs hb
        have C := r2 D' (by omega) g m hs hb
        unfold kRun at C
        have S := s2 g m hs hb
        rw [st]
        cases f1 with
        | true =>
          obtain ⟨g', q1, q2, q3, q4⟩ := A.2 rfl
          refine ⟨fun z => by simp at z, fun _ => ⟨g', x_bx q1, q2, q3, q4⟩⟩
        | false =>
          rw [x_b1 (A.1 rfl), x_b1 g2]
          cases f2 with
          | true =>
            obtain ⟨g', q1, q2, q3, q4⟩ := C.2 rfl
            refine ⟨fun z => by simp at z, fun _ => ⟨g', x_bx q1, q2, q3, q4⟩⟩
          | false =>
            rw [x_b1 (C.1 rfl)]
            cases hz : pFlt (5 + k) v2 with
            | true =>
              rw [hz] at S
              obtain ⟨g', q1, q2, q3, q4⟩ := S.2 rfl
              refine ⟨fun z => by simp at z, fun _ => ⟨g', x_bx q1, q2, q3, q4⟩⟩
            | false =>
              rw [hz] at S
              refine ⟨fun _ => ?_, fun z => by simp at z⟩
              have e : plim vv = pWork (5 + k) v1 v2 := s1.resolve_right (by rw [hz]; exact fun z => nomatch z)
              rw [x_b1 (S.1 rfl), x_b1 (i_jm _ _ _ _ _), x_b1 (i_jx _ _ _ _ _), ← e]
              rfl
end FO
