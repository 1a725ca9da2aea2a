/-! part 555: State.queue and State.planAt -/
section KQ5
variable {Γ : Nat → Option Nat} {h g : xH} {n qu qa cm c mx it pl st : Nat} {mc : Int32} {N : Nat → Int32} {B M κ q D T : Nat → Nat}
theorem kq_id {f : Nat → Option Nat} (h1 : g qu = some (kQc qa cm c mc)) (h2 : g qa = some (true, .inl (5, 12, .inr (.inr (.inr (.inr f)))))) : kQu g qu qa cm c mc f = g := by
  unfold kQu kQA
  rw [up_id h1, up_id h2]
theorem hsub_kQu {f : Nat → Option Nat} (hs : hsub h g) (hu : h qu = none) (ha : h qa = none) : hsub h (kQu g qu qa cm c mc f) := by
  intro a z
  rw [kq_o (fun e => z (by rw [e]; exact hu)) (fun e => z (by rw [e]; exact ha))]
  exact hs a z
/-- the plans of the list are put into the queue -/
theorem k_queue25 (P : kPr h N c mx B M) (L : kLl h pl c D T) (TI : qI T c) (TS : ∀ a, qS T c a ↔ qS B c a) (hκ : ∀ j, j < c → κ (B j) = pKy (pRw N j) (M j)) (hu : h qu = none) (ha : h qa = none) (hi : h it = none) (d1 : qu ≠ qa) (d2 : it ≠ qu) (d3 : it ≠ qa) (d4 : cm ≠ qu) (d5 : cm ≠ qa) (d6 : cm ≠ it) :
    ∀ (k i fu : Nat) (g : xH) (mc : Int32) (q : Nat → Nat), i + k = c → k < fu → hsub h g → yO g 34 cm → kIl g it pl i c D → g qu = some (kQc qa cm i mc) → g qa = some (true, .inl (5, 12, .inr (.inr (.inr (.inr (kF q i)))))) → qH κ q i → qI q i → (∀ a, qS q i a ↔ qS T i a) →
    ∃ g' mc' q', fX2_queue_p25 fu qu (some it) Γ g n = some (.inl (some qu), kQu g' qu qa cm c mc' (kF q' c), 0, 0) ∧ hsub h g' ∧ yO g' 34 cm ∧ (∀ m, xbd m g → xbd m g') ∧ qH κ q' c ∧ qI q' c ∧ (∀ a, qS q' c a ↔ qS B c a) ∧ kQu g' qu qa cm c mc' (kF q' c) = g' := by
  intro k
  induction k with
  | zero =>
    intro i fu g mc q hk hf hs hcm I gu ga H1 H2 H3
    obtain ⟨fu, rfl⟩ : ∃ g, fu = g + 1 := ⟨fu - 1, by omega⟩
    obtain rfl : i = c := by omega
    have L' := L.mono hs
    have hh := k_ilHas (Γ := Γ) (n := n) L' I (Nat.le_refl _)
    rw [if_neg (by omega)] at hh
    refine ⟨g, mc, q, ?_, hs, hcm, fun _ z => z, H1, H2, fun a => (H3 a).trans (TS a), kq_id gu ga⟩
    rw [fX2_queue_p25, x_b1 hh, if_pos (by decide), kq_id gu ga]
    rfl
  | succ k ih =>
    intro i fu g mc q hk hf hs hcm I gu ga H1 H2 H3
    obtain ⟨fu, rfl⟩ : ∃ g, fu = g + 1 := ⟨fu - 1, by omega⟩
    have c12 := P.1
    have L' := L.mono hs
    have hh := k_ilHas (Γ := Γ) (n := n) L' I (show i ≤ c by omega)
    rw [if_pos (by omega)] at hh
    obtain ⟨g1, n1, n2, n3, n4⟩ := k_ilNext (Γ := Γ) (n := n) L' I (show i < c by omega)
    have s1 : hsub h g1 := fun a z => (n3 a (fun e => z (by rw [e]; exact hi))).trans (hs a z)
    have gu1 : g1 qu = some (kQc qa cm i mc) := (n3 _ d2.symm).trans gu
    have ga1 := (n3 _ d3.symm).trans ga
    have cm1 : yO g1 34 cm := (yO_c (n3 _ d6)).mpr hcm
    have C : kCq Γ g1 qu qa cm (fun a => ∃ j, j < c ∧ a = B j) κ := kCq_of P (fun a z _ _ => s1 a z) (fun cc _ z => yO_at z hu) (fun cc z => yO_at z ha) cm1 d4 d5 hκ
    have gB : ∀ a, qS T c a → ∃ j, j < c ∧ a = B j := by
      intro a z
      obtain ⟨j, j1, j2⟩ := (TS a).mp z
      exact ⟨j, j1, j2.symm⟩
    have gT : ∃ j, j < c ∧ T i = B j := gB _ ⟨i, by omega, rfl⟩
    obtain ⟨q', mc', p1, p2, p3, p4⟩ := k_qAdd (n := n) (mc := mc) (v := T i) C d1 (show i < 12 by omega) (fun j hj => by
      obtain ⟨t, t1, t2⟩ := (H3 (q j)).mp ⟨j, hj, rfl⟩
      exact gB _ ⟨t, by omega, t2⟩) gT H1 H2 (fun z => by
      obtain ⟨t, t1, t2⟩ := (H3 (T i)).mp z
      have := TI t i (by omega) (by omega) t2
      omega)
    rw [kq_id gu1 ga1] at p1
    have yT : yO g1 38 (T i) := by
      obtain ⟨j, j1, j2⟩ := gT
      rw [j2]
      exact hO (P.2.1 j j1).1.1 s1
    have I1 : kIl (kQu g1 qu qa cm (i + 1) mc' (kF q' (i + 1))) it pl (i + 1) c D := n2.cg (kq_o d2 d3) (kq_o (fun e => yO_at (yO_of _ _ _ L.1) (by rw [e]; exact hu)) (fun e => yO_at (yO_of _ _ _ L.1) (by rw [e]; exact ha)))
    have hset : ∀ a, qS q' (i + 1) a ↔ qS T (i + 1) a := by
      intro a
      refine (p4 a).trans ⟨?_, ?_⟩
      · rintro (z | z)
        · obtain ⟨t, t1, t2⟩ := (H3 a).mp z
          exact ⟨t, by omega, t2⟩
        · exact ⟨i, by omega, z.symm⟩
      · rintro ⟨t, t1, t2⟩
        by_cases e : t = i
        · exact Or.inr (by rw [← t2, e])
        · exact Or.inl ((H3 a).mpr ⟨t, by omega, t2⟩)
    obtain ⟨g', mc2, q2, r1, r2, r3, r4, r5⟩ := ih (i + 1) fu (kQu g1 qu qa cm (i + 1) mc' (kF q' (i + 1))) mc' q' (by omega) (by omega) (hsub_kQu s1 hu ha) ((yO_c (kq_o d4 d5)).mpr cm1) I1 (kq_at d1) (by unfold kQu kQA; rw [up_self]) p2 p3 hset
    refine ⟨g', mc2, q2, ?_, r2, r3, fun m z => r4 m ?_, r5⟩
    · rw [fX2_queue_p25, x_b1 hh, if_neg (by decide), x_b1 n1, x_b1 (k_cst yT rfl), x_b1 p1]
      exact r1
    · intro a ha'
      have z' := z a ha'
      have e1 : a ≠ qu := fun e => by rw [e, gu] at z'; nomatch z'
      have e2 : a ≠ qa := fun e => by rw [e, ga] at z'; nomatch z'
      rw [kq_o e1 e2]
      have := n4 a
      unfold yhd at this
      rw [z'] at this
      simpa using this
theorem k_queue (hS : yO h 1 st) (hp : yr h 1 1 st = some pl) (PS : kPs h pl N mx D T B M) (hb : xbd n h) : ∃ g mc q κ, xsel (some st) [(1, fun z => fX2_queue z)] Γ h n = some (.inl (some n), kQu g n (n + 2) (n + 1) (nn (N 3)) mc (kF q (nn (N 3))), 4, 21) ∧ hsub h g ∧ xbd (n + 4) g ∧ yO g 34 (n + 1) ∧ kQB κ B q 0 (nn (N 3)) ∧ (∀ j, j < nn (N 3) → κ (B j) = pKy (pRw N j) (M j)) ∧ kQu g n (n + 2) (n + 1) (nn (N 3)) mc (kF q (nn (N 3))) = g := by
  obtain ⟨L, P, TI, TS⟩ := PS
  obtain ⟨κ, hκ⟩ := ex_inv (K := fun j => pKy (pRw N j) (M j)) P.inj
  let h1 : xH := xupd h n (true, .inr (33, [.null, .int 0, .null, .int 0]))
  let h2 : xH := xupd h1 (n + 1) (true, .inr (34, []))
  let h3 : xH := xupd h2 (n + 2) (true, .inl (5, 12, .inr (.inr (.inr (.inr (fun _ => none))))))
  let h4 : xH := xupd h3 n (kQc (n + 2) (n + 1) 0 0)
  have b1 : xbd (n + 1) h1 := xbd_up1 hb
  have b2 : xbd (n + 2) h2 := xbd_up1 b1
  have b3 : xbd (n + 3) h3 := xbd_up1 b2
  have b4 : xbd (n + 3) h4 := xbd_up b3 (by omega)
  have s1 : hsub h h1 := hsub_up (hb n (by omega))
  have s2 : hsub h h2 := s1.trans (hsub_up (b1 _ (by omega)))
  have s3 : hsub h h3 := s2.trans (hsub_up (b2 _ (by omega)))
  have s4 : hsub h h4 := fun a z => (up_ne (fun e => z (by rw [e]; exact hb n (by omega)))).trans (s3 a z)
  have i12 : (Int32.ofNat 12).toNatClampNeg = 12 := by decide
  have at3 : h3 n = some (true, .inr (33, [.null, .int 0, .null, .int 0])) := by
    show xupd (xupd h1 (n + 1) _) (n + 2) _ n = _
    rw [up_ne (by omega), up_ne (by omega)]
    exact up_self
  have p1 : xput 33 0 (some n) (va_rf (some (n + 2))) Γ h3 (n + 3) = some (.inl (), xupd h3 n (true, .inr (33, [.ref (n + 2), .int 0, .null, .int 0])), 0, 0) := by
    unfold xput
    simp only [at3]
    rw [if_pos ⟨trivial, by simp⟩]
    rfl
  have p2 : xput 33 2 (some n) (va_rf (some (n + 1))) Γ (xupd h3 n (true, .inr (33, [.ref (n + 2), .int 0, .null, .int 0]))) (n + 3) = some (.inl (), h4, 0, 0) := o1_p (by simp)
  have ei : fJ45_init n (12 : Int32) (some (n + 1)) Γ h2 (n + 2) = some (.inl (), h4, 1, 12) := by
    unfold fJ45_init
    rw [x_b1 (show fJ44_init__J45 n Γ h2 (n + 2) = some (.inl (), h2, 0, 0) from rfl), if_pos (by decide), x_bc (show xnewA 5 (fun N => (N, .inr (.inr (.inr (.inr (fun _ => none)))))) (12 : Int32) Γ h2 (n + 2) = some (.inl (n + 2), h3, 1, 12) by
      unfold xnewA
      rw [if_pos (by decide)]
      rfl), x_b1 p1, x_b1 p2]
    rfl
  have g1 := e_gR (Γ := Γ) (n := n + 3) (hO hS s4) kn1_1
  rw [yr_c (s4 _ (yO_at hS)), hp] at g1
  have L4 := L.mono s4
  obtain ⟨g5, n1, n2, n3, n4⟩ := k_ilNew (Γ := Γ) L4 b4
  have s5 : hsub h g5 := s4.trans n3
  have au : h4 n = some (kQc (n + 2) (n + 1) 0 0) := up_self
  have aa : h4 (n + 2) = some (true, .inl (5, 12, .inr (.inr (.inr (.inr (fun _ => none)))))) := (up_ne (by omega)).trans up_self
  have ac : h4 (n + 1) = some (true, .inr (34, [])) := (up_ne (by omega)).trans ((up_ne (by omega)).trans up_self)
  have yc : yO g5 34 (n + 1) := hO ⟨true, by unfold yhd; rw [ac]; rfl⟩ n3
  obtain ⟨g', mc', q', r1, r2, r3, r4, r5, r6, r7, r8⟩ := k_queue25 (Γ := Γ) (n := n + 3 + 1) (it := n + 3) (qu := n) (qa := n + 2) (cm := n + 1) P L TI TS hκ (hb _ (by omega)) (hb _ (by omega)) (hb _ (by omega)) (by omega) (by omega) (by omega) (by omega) (by omega) (by omega) (nn (N 3)) 0 xFU g5 0 (fun _ => 0) (by omega) (by have := P.1; unfold xFU; omega) s5 yc n2 ((n3 _ (by rw [au]; exact fun z => nomatch z)).trans au) (by rw [kF_0]; exact (n3 _ (by rw [aa]; exact fun z => nomatch z)).trans aa) (fun i a b => absurd b (by omega)) (fun i j a => absurd a (by omega)) (fun a => ⟨fun ⟨i, hi, _⟩ => absurd hi (by omega), fun ⟨i, hi, _⟩ => absurd hi (by omega)⟩)
  refine ⟨g', mc', q', κ, ?_, r2, r4 _ n4, r3, ⟨by rw [Nat.sub_zero]; exact r5, by rw [Nat.sub_zero]; exact r6, fun a => ?_⟩, hκ, r8⟩
  · rw [e_sel hS]
    unfold fX2_queue
    rw [x_bc (show xnew 33 [.null, .int 0, .null, .int 0] 4 Γ h n = some (.inl n, h1, 1, 4) from rfl), x_bc (show xnew 34 [] 0 Γ h1 (n + 1) = some (.inl (n + 1), h2, 1, 0) from rfl), x_b1 (show fX16_init (n + 1) Γ h2 (n + 1 + 1) = some (.inl (), h2, 0, 0) from rfl), x_bc ei, x_b1 g1, x_bc ((e_sel (yO_of _ _ _ L4.1)).trans n1), r1]
    rfl
  · rw [Nat.sub_zero, r7 a]
    constructor
    · rintro ⟨j, j1, j2⟩
      exact ⟨j, by omega, j1, j2.symm⟩
    · rintro ⟨j, j1, j2, j3⟩
      exact ⟨j, j2, j3.symm⟩
/-- the plan in row p -/
def kPA (B : Nat → Nat) (c : Nat) (p : Int32) : Option Nat := if 0 ≤ p.toInt ∧ p.toInt < c then some (B p.toInt.toNat) else none
theorem k_planAt33 {k : Nat} {p : Int32} (C : kCq Γ g qu qa cm (fun a => ∃ j, j < c ∧ a = B j) κ) (P : kPr h N c mx B M) (hs : hsub h g) (hu : h qu = none) (ha : h qa = none) (d : qu ≠ qa) (mo : ∀ i j, i < j → j < c → κ (B i) < κ (B j)) (H : kQB κ B q k c) (hk : k ≤ c) (hp : (k : Int) = p.toInt ∨ (p.toInt < 0) ∨ (k = c ∧ (c : Int) ≤ p.toInt)) : ∃ mc' q', fX2_planAt_p33 p (some qu) Γ (kQu g qu qa cm (c - k) mc (kF q (c - k))) n = some (.inl (kPA B c p), kQu g qu qa cm (c - (k + 1)) mc' (kF q' (c - (k + 1))), 0, 0) ∨ fX2_planAt_p33 p (some qu) Γ (kQu g qu qa cm (c - k) mc (kF q (c - k))) n = some (.inl (kPA B c p), kQu g qu qa cm (c - k) mc (kF q (c - k)), 0, 0) := by
  have z0 : (0 : Int32).toInt = 0 := by decide
  unfold fX2_planAt_p33 kPA
  by_cases p0 : p.toInt < 0
  · refine ⟨mc, q, Or.inr ?_⟩
    rw [if_neg (by rw [Int32.le_iff_toInt_le]; omega), if_neg (by omega)]
    rfl
  · rw [if_pos (show (0 : Int32) ≤ p by rw [Int32.le_iff_toInt_le]; omega)]
    by_cases kc : k < c
    · obtain ⟨q', mc', e1, e2, e3⟩ := k_pollB (n := n) (mc := mc) C d P.1 kc mo H
      refine ⟨mc', q', Or.inl ?_⟩
      have y : yO (kQu g qu qa cm (c - (k + 1)) mc' (kF q' (c - (k + 1)))) 38 (B k) := hO (P.2.1 k kc).1.1 (hsub_kQu hs hu ha)
      rw [x_b1 e1, x_b1 (k_cst y rfl), if_pos (by omega), show p.toInt.toNat = k by omega]
      rfl
    · refine ⟨mc, q, Or.inr ?_⟩
      rw [x_b1 (k_qPoll0 d (by unfold kF; rw [if_neg (by omega)])), x_b1 (show xcst (fun c => c == 38) none Γ (kQu g qu qa cm (c - k) mc (kF q (c - k))) n = some (.inl (), kQu g qu qa cm (c - k) mc (kF q (c - k)), 0, 0) from rfl), if_neg (by omega)]
      rfl
theorem k_planAt7 {p : Int32} (C : kCq Γ g qu qa cm (fun a => ∃ j, j < c ∧ a = B j) κ) (P : kPr h N c mx B M) (hs : hsub h g) (hu : h qu = none) (ha : h qa = none) (d : qu ≠ qa) (mo : ∀ i j, i < j → j < c → κ (B i) < κ (B j)) : ∀ (r k fu : Nat) (q : Nat → Nat) (mc : Int32) (l : Int32), k + r = c → r < fu → kQB κ B q k c → ((k = 0 ∧ l = p) ∨ (0 ≤ p.toInt ∧ l.toInt = p.toInt - k ∧ (k : Int) ≤ p.toInt)) → ∃ c' mc' q', fX2_planAt_p7 fu p (some qu) l Γ (kQu g qu qa cm (c - k) mc (kF q (c - k))) n = some (.inl (kPA B c p), kQu g qu qa cm c' mc' (kF q' c'), 0, 0) := by
  have z0 : (0 : Int32).toInt = 0 := by decide
  intro r
  induction r with
  | zero =>
    intro k fu q mc l hk hf H hl
    obtain ⟨fu, rfl⟩ : ∃ g, fu = g + 1 := ⟨fu - 1, by omega⟩
    obtain ⟨mc', q', e⟩ := k_planAt33 (n := n) (mc := mc) (p := p) (k := k) C P hs hu ha d mo H (by omega) (by
      rcases hl with ⟨z1, z2⟩ | z
      · subst z1
        omega
      · omega)
    have fin : ∃ c' mc' q', fX2_planAt_p33 p (some qu) Γ (kQu g qu qa cm (c - k) mc (kF q (c - k))) n = some (.inl (kPA B c p), kQu g qu qa cm c' mc' (kF q' c'), 0, 0) := by
      rcases e with e | e
      · exact ⟨_, _, _, e⟩
      · exact ⟨_, _, _, e⟩
    rw [fX2_planAt_p7]
    by_cases l0 : l ≤ 0
    · rw [if_pos l0]
      exact fin
    · rw [if_neg l0, x_b1 (k_qEmpty d (by have := P.1; omega)), if_pos (show c - k = 0 by omega), if_neg (by decide)]
      exact fin
  | succ r ih =>
    intro k fu q mc l hk hf H hl
    obtain ⟨fu, rfl⟩ : ∃ g, fu = g + 1 := ⟨fu - 1, by omega⟩
    rw [fX2_planAt_p7]
    by_cases l0 : l ≤ 0
    · rw [if_pos l0]
      have l0' := Int32.le_iff_toInt_le.mp l0
      obtain ⟨mc', q', e⟩ := k_planAt33 (n := n) (mc := mc) (p := p) (k := k) C P hs hu ha d mo H (by omega) (by
        rcases hl with ⟨z1, z2⟩ | z
        · subst z1
          subst z2
          omega
        · omega)
      rcases e with e | e
      · exact ⟨_, _, _, e⟩
      · exact ⟨_, _, _, e⟩
    · have l0' : 0 < l.toInt := by
        have : ¬ l.toInt ≤ (0 : Int32).toInt := fun z => l0 (Int32.le_iff_toInt_le.mpr z)
        omega
      obtain ⟨q', mc', e1, e2, e3⟩ := k_pollB (n := n) (mc := mc) C d P.1 (show k < c by omega) mo H
      have y : yO (kQu g qu qa cm (c - (k + 1)) mc' (kF q' (c - (k + 1)))) 38 (B k) := hO (P.2.1 k (by omega)).1.1 (hsub_kQu hs hu ha)
      have lm : (l + (-1 : Int32)).toInt = l.toInt - 1 := by
        have e := i_ofToInt (v := l) (by omega)
        have hb := Int32.toInt_lt l
        have : l + (-1 : Int32) = Int32.ofNat (l.toInt.toNat - 1) := by
          rw [show l + (-1 : Int32) = l - Int32.ofNat 1 from (Int32.sub_eq_add_neg _ _).symm]
          conv => lhs; rw [e]
          rw [i_sub (by omega)]
        rw [this, i_toInt (by omega)]
        omega
      obtain ⟨c2, m2, q2, e4⟩ := ih (k + 1) fu q' mc' (l + (-1 : Int32)) (by omega) (by omega) e2 (by
        rcases hl with ⟨z1, z2⟩ | z
        · subst z1
          subst z2
          exact Or.inr ⟨by omega, by omega, by omega⟩
        · exact Or.inr ⟨by omega, by omega, by omega⟩)
      refine ⟨c2, m2, q2, ?_⟩
      rw [if_neg l0, x_b1 (k_qEmpty d (by have := P.1; omega)), if_neg (show ¬ c - k = 0 by omega), if_pos rfl, x_b1 e1, x_b1 (k_cst y rfl)]
      exact e4
theorem k_planAt {p : Int32} (hS : yO h 1 st) (hp : yr h 1 1 st = some pl) (PS : kPs h pl N mx D T B M) (hb : xbd n h) : ∃ g, xsel (some st) [(1, fun z => fX2_planAt z p)] Γ h n = some (.inl (kPA B (nn (N 3)) p), g, 4, 21) ∧ hsub h g ∧ xbd (n + 4) g := by
  obtain ⟨g, mc, q, κ, e1, e2, e3, e4, e5, e6, e7⟩ := k_queue (Γ := Γ) hS hp PS hb
  obtain ⟨L, P, TI, TS⟩ := PS
  have hu := hb n (by omega)
  have ha := hb (n + 2) (by omega)
  have mo : ∀ i j, i < j → j < nn (N 3) → κ (B i) < κ (B j) := fun i j ij jc => by
    rw [e6 i (by omega), e6 j jc]
    exact P.2.2 i j ij jc
  have C : kCq Γ g n (n + 2) (n + 1) (fun a => ∃ j, j < nn (N 3) ∧ a = B j) κ := kCq_of P (fun a z _ _ => e2 a z) (fun cc _ z => yO_at z hu) (fun cc z => yO_at z ha) e4 (by omega) (by omega) e6
  obtain ⟨c', mc', q', r⟩ := k_planAt7 (n := n + 4) (p := p) C P e2 hu ha (by omega) mo (nn (N 3)) 0 xFU q mc p (by omega) (by have := P.1; unfold xFU; omega) e5 (Or.inl ⟨rfl, rfl⟩)
  rw [Nat.sub_zero] at r
  refine ⟨kQu g n (n + 2) (n + 1) c' mc' (kF q' c'), ?_, hsub_kQu e2 hu ha, ?_⟩
  · rw [e_sel hS]
    unfold fX2_planAt
    rw [x_bc e1, r]
    rfl
  · intro a h4
    rw [kq_o (by omega) (by omega)]
    exact e3 a h4
end KQ5
