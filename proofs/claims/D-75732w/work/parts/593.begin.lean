/-! part 593: a species' formula; the quota -/
theorem kNo.cg {h g : xH} (e : ∀ q c, yO h c q → (c = 21 ∨ c = 26 ∨ c = 27 ∨ (40 ≤ c ∧ c < 50)) → g q = h q) : ∀ (d a : Nat) (ts : List (Nat × Int32)), kNo h d a ts → kNo g d a ts := by
  intro d
  induction d with
  | zero => intro a ts h0; exact h0
  | succ d ih =>
    intro a ts h0
    rcases h0 with ⟨v, h1, h2, h3⟩ | ⟨c, k, w, h1, h2, h3, h4, h5⟩ | ⟨c, k, l, r, w, t1, t2, h1, h2, h3, h4, h5, h6, h7, h8, h9⟩
    · have e0 := e _ _ h1 (by omega)
      exact Or.inl ⟨v, (yO_c e0).mpr h1, (yj_c e0).trans h2, h3⟩
    · have e0 := e _ _ h1 (by omega)
      exact Or.inr (Or.inl ⟨c, k, w, (yO_c e0).mpr h1, (yr_c e0).trans h2, h3, (yO_c (e _ _ h4 (by omega))).mpr h4, h5⟩)
    · have e0 := e _ _ h1 (by omega)
      exact Or.inr (Or.inr ⟨c, k, l, r, w, t1, t2, (yO_c e0).mpr h1, (yr_c e0).trans h2, h3, (yO_c (e _ _ h4 (by omega))).mpr h4, (yr_c e0).trans h5, (yr_c e0).trans h6, ih _ _ h7, ih _ _ h8, h9⟩)
/-- the formula of the species p has the words ts -/
def kFm (h : xH) (p : Nat) (ts : List (Nat × Int32)) : Prop := yO h 20 p ∧ ∃ a, yr h 20 4 p = some a ∧ ((ts = [] ∧ yO h 21 a ∧ yj h 21 0 a = 0) ∨ kNo h 1000 a ts)
section FM
variable {Γ : Nat → Option Nat} {h g : xH} {fa p : Nat} {env : Nat → Int64} {ts : List (Nat × Int32)}
theorem kFm.cg (H : kFm h p ts) (e : ∀ q c, yO h c q → (c = 20 ∨ c = 21 ∨ c = 26 ∨ c = 27 ∨ (40 ≤ c ∧ c < 50)) → g q = h q) : kFm g p ts := by
  obtain ⟨h1, a, h2, h3⟩ := H
  have e0 := e _ _ h1 (by omega)
  refine ⟨(yO_c e0).mpr h1, a, (yr_c e0).trans h2, ?_⟩
  rcases h3 with ⟨q1, q2, q3⟩ | q
  · have e1 := e _ _ q2 (by omega)
    exact Or.inl ⟨q1, (yO_c e1).mpr q2, (yj_c e1).trans q3⟩
  · exact Or.inr (kNo.cg (fun q c hq hc => e q c hq (by omega)) _ _ _ q)
theorem k_form (H : kFm h p ts) (hf : yO h 28 fa) (he : ∀ j, j < 4 → yj h 28 j fa = env (j + 1) ∧ jB (env (j + 1))) : ∃ a, yr h 20 4 p = some a ∧ kVal Γ h (kRun 1000 a fa) (pVal env ts).1 (pVal env ts).2 ∧ jB (pVal env ts).1 := by
  obtain ⟨h1, a, h2, h3⟩ := H
  refine ⟨a, h2, ?_⟩
  rcases h3 with ⟨q1, q2, q3⟩ | q
  · subst q1
    refine ⟨fun g m hs hb => ⟨fun _ => ?_, fun z => nomatch z⟩, by show jB (0 : Int64); unfold jB; decide⟩
    have q := e_gJ (Γ := Γ) (n := m) (hO q2 hs) kn21_0
    rw [yj_c (hs _ (yO_at q2)), q3] at q
    unfold kRun
    rw [e_sel (hO q2 hs)]
    unfold fX8_value
    rw [x_b1 q]
    rfl
  · obtain ⟨v, fl, r1, r2, r3⟩ := k_node (Γ := Γ) hf he 1000 a ts q
    have e1 := r1 [] [] false
    rw [List.append_nil, pEv, Bool.false_or] at e1
    have ne : ts ≠ [] := by
      intro z
      subst z
      rw [pEv] at e1
      injection e1 with e1
      injection e1 with e1
      nomatch e1
    have ev : pVal env ts = (v, fl) := by
      unfold pVal
      rw [e1]
      cases ts with
      | nil => exact absurd rfl ne
      | cons t ts => rfl
    rw [ev]
    exact ⟨r3 1000 (by omega), r2⟩
/-- the quota by the formula, or NoQuota -/
theorem k_quota {Y : Nat → Nat} (oH : yO h 19 (Y 0)) (h0 : yr h 19 0 (Y 0) = some p) (H : kFm h p ts) (hf : yO h 28 fa) (he : ∀ j, j < 4 → yj h 28 j fa = env (j + 1) ∧ jB (env (j + 1))) {m : Nat} (hb : xbd m h) : ((pVal env ts).2 = false → xsel (some (Y 0)) [(19, fun z => fX6_quotaBy z (some fa))] Γ h m = some (.inl (pVal env ts).1, h, 0, 0)) ∧ ((pVal env ts).2 = true → ∃ g fs, xsel (some (Y 0)) [(19, fun z => fX6_quotaBy z (some fa))] Γ h m = some (.inr (m + 1), g, 2, 12) ∧ hsub h g ∧ xbd (m + 2) g ∧ g (m + 1) = some (true, .inr (30, .ref m :: fs)) ∧ yO g 29 m ∧ yO g 30 (m + 1)) := by
  obtain ⟨a, a1, a2, a3⟩ := k_form (Γ := Γ) H hf he
  have g0 := e_gR (Γ := Γ) (n := m) oH kn19_0
  rw [h0] at g0
  have g4 := e_gR (Γ := Γ) (n := m) H.1 kn20_4
  rw [a1] at g4
  have K := a2 h m hsub.rfl hb
  unfold kRun at K
  constructor
  · intro z
    rw [e_sel oH]
    unfold fX6_quotaBy
    rw [x_b1 g0, x_b1 g4]
    unfold xtry
    rw [K.1 z]
    rfl
  · intro z
    obtain ⟨g', k1, k2, k3, k4⟩ := K.2 z
    let c0 : xAC := (true, .inr (30, [va_rf (some m), va_rf none, va_rf none, va_rf none, .null, .int 0]))
    have w : ∀ (k : Nat) (fs : List Value) (v : Value), k < fs.length → xput 30 k (some (m + 1)) v Γ (xupd g' (m + 1) (true, .inr (30, fs))) (m + 1 + 1) = some (.inl (), xupd g' (m + 1) (true, .inr (30, fs.set k v)), 0, 0) := fun k fs v hk => o1_p hk
    have e3 : fJ3_init_4__X15 (m + 1) none (some m) (0 : Int32) (0 : Int32) Γ (xupd g' (m + 1) (true, .inr (30, [.null, .null, .null, .null, .null, .int 0]))) (m + 1 + 1) = some (.inl (), xupd g' (m + 1) c0, 0, 0) := by
      unfold fJ3_init_4__X15
      rw [x_b1 (w 0 _ _ (by simp)), x_b1 (show xcon 18 Γ _ (m + 1 + 1) = some (.inl (Γ 18), _, 0, 0) from rfl), x_b1 (w 1 _ _ (by simp)), x_b1 (show xcon 19 Γ _ (m + 1 + 1) = some (.inl (Γ 19), _, 0, 0) from rfl), x_b1 (w 2 _ _ (by simp)), if_pos rfl, x_b1 (w 1 _ _ (by simp))]
      unfold fJ3_init_4__X15_p41
      rw [x_b1 (w 3 _ _ (by simp)), x_b1 (w 0 _ _ (by simp)), if_pos rfl, x_b1 (w 2 _ _ (by simp))]
      rfl
    have e4 : fX15_init (m + 1) (some m) Γ (xupd g' (m + 1) (true, .inr (30, [.null, .null, .null, .null, .null, .int 0]))) (m + 1 + 1) = some (.inl (), xupd g' (m + 1) c0, 0, 0) := by
      unfold fX15_init
      rw [x_b1 (show fJ4_init_4__X15 (m + 1) none (some m) (0 : Int32) (0 : Int32) Γ _ (m + 1 + 1) = some (.inl (), xupd g' (m + 1) c0, 0, 0) by
        unfold fJ4_init_4__X15
        rw [x_b1 e3]
        rfl)]
      rfl
    have s' : hsub g' (xupd g' (m + 1) c0) := hsub_up (k3 _ (Nat.le_refl _))
    have ho : xobj (xupd g' (m + 1) c0) (some (m + 1)) = some (m + 1, 30, [va_rf (some m), va_rf none, va_rf none, va_rf none, .null, .int 0]) := o1_obj
    have th : (xthrow (some (m + 1)) : xM Int64) Γ (xupd g' (m + 1) c0) (m + 1 + 1) = some (.inr (m + 1), xupd g' (m + 1) c0, 0, 0) := by
      unfold xthrow
      rw [ho]
    have hdl : xsel (some m) [(29, fun _ => xbind (xnew 30 [.null, .null, .null, .null, .null, .int 0] 6) fun v15 => xbind (fX15_init v15 (some m)) fun _ => (xthrow (some v15) : xM Int64))] Γ g' (m + 1) = some (.inr (m + 1), xupd g' (m + 1) c0, 1, 6) := by
      rw [e_sel k4, x_bc (show xnew 30 [.null, .null, .null, .null, .null, .int 0] 6 Γ g' (m + 1) = some (.inl (m + 1), xupd g' (m + 1) (true, .inr (30, [.null, .null, .null, .null, .null, .int 0])), 1, 6) from rfl), x_b1 e4, th]
      rfl
    refine ⟨xupd g' (m + 1) c0, [va_rf none, va_rf none, va_rf none, .null, .int 0], ?_, k2.trans s', xbd_up1 k3, up_self, hO k4 s', ⟨true, by unfold yhd; rw [up_self]; rfl⟩⟩
    rw [e_sel oH]
    unfold fX6_quotaBy
    rw [x_b1 g0, x_b1 g4]
    unfold xtry
    rw [k1]
    dsimp only
    rw [hdl]
end FM
