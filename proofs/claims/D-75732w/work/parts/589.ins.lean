/-! part 589: a plan is put in its row -/
def pQ (R : Nat → Int32) : Nat := ((nn (R 0) * 3 + nn (R 1)) * 4 + nn (R 2)) * 13 + nn (R 3)
section PI
variable {N R : Nat → Int32} {k mk mj : Nat}
theorem nN_eq {a b : Int32} (ha : nN a) (hb : nN b) : a = b ↔ nn a = nn b := by
  constructor
  · intro z; rw [z]
  · intro z; unfold nN at ha hb; rw [ha, hb, z]
theorem nN_lt {a b : Int32} (ha : nN a) (hb : nN b) : a < b ↔ nn a < nn b := by
  have la := nn_lt a
  have lb := nn_lt b
  unfold nN at ha hb
  rw [ha, hb, i_lt (by omega) (by omega), nn_of la, nn_of lb]
theorem pAh_iff (o1 : okR (pRw N k) mk) (o2 : okR R mj) : pAh N R k 0 4 = true ↔ pQ (pRw N k) ≤ pQ R := by
  obtain ⟨a, a0, a1, a2, a3, -⟩ := o1
  obtain ⟨b, b0, b1, b2, b3, -⟩ := o2
  have e : ∀ w, w < 4 → ((N (4 + 5 * k + w) = R w) ↔ nn (pRw N k w) = nn (R w)) := fun w hw => nN_eq (a w hw) (b w hw)
  have l : ∀ w, w < 4 → ((N (4 + 5 * k + w) < R w) ↔ nn (pRw N k w) < nn (R w)) := fun w hw => nN_lt (a w hw) (b w hw)
  unfold pAh pAh pAh pAh pAh pQ
  simp only [e 0 (by omega), e (0 + 1) (by omega), e (0 + 1 + 1) (by omega), e (0 + 1 + 1 + 1) (by omega), l 0 (by omega), l (0 + 1) (by omega), l (0 + 1 + 1) (by omega), l (0 + 1 + 1 + 1) (by omega), Nat.zero_add, Nat.reduceAdd]
  generalize nn (pRw N k 0) = r0 at *
  generalize nn (pRw N k 1) = r1 at *
  generalize nn (pRw N k 2) = r2 at *
  generalize nn (pRw N k 3) = r3 at *
  generalize nn (R 0) = v0 at *
  generalize nn (R 1) = v1 at *
  generalize nn (R 2) = v2 at *
  generalize nn (R 3) = v3 at *
  by_cases c0 : r0 = v0
  · rw [if_pos c0]
    by_cases c1 : r1 = v1
    · rw [if_pos c1]
      by_cases c2 : r2 = v2
      · rw [if_pos c2]
        by_cases c3 : r3 = v3
        · rw [if_pos c3]; simp only [true_iff]; omega
        · rw [if_neg c3, decide_eq_true_iff]; omega
      · rw [if_neg c2, decide_eq_true_iff]; omega
    · rw [if_neg c1, decide_eq_true_iff]; omega
  · rw [if_neg c0, decide_eq_true_iff]; omega
theorem pPos_spec : ∀ (r k : Nat), k ≤ pPos N R k r ∧ pPos N R k r ≤ k + r ∧ (∀ j, k ≤ j → j < pPos N R k r → pAh N R j 0 4 = true) ∧ (pPos N R k r < k + r → ¬ pAh N R (pPos N R k r) 0 4 = true) := by
  intro r
  induction r with
  | zero =>
    intro k
    unfold pPos
    exact ⟨by omega, by omega, fun j h1 h2 => by omega, fun z => by omega⟩
  | succ r ih =>
    intro k
    unfold pPos
    by_cases c : pAh N R k 0 4 = true
    · rw [if_pos c]
      obtain ⟨i1, i2, i3, i4⟩ := ih (k + 1)
      refine ⟨by omega, by omega, fun j h1 h2 => ?_, fun z => i4 (by omega)⟩
      by_cases e : j = k
      · rw [e]; exact c
      · exact i3 j (by omega) h2
    · rw [if_neg c]
      exact ⟨by omega, by omega, fun j h1 h2 => by omega, fun _ => c⟩
theorem pIns_row {p cnt j w : Nat} (hp : p ≤ cnt) (hj : j < cnt + 1) (hw : w < 5) : pRw (pIns N R p cnt) j w = if j < p then pRw N j w else if j = p then R w else pRw N (j - 1) w := by
  unfold pRw pIns
  rw [if_neg (by omega)]
  by_cases c1 : j < p
  · rw [if_pos c1, if_neg (by omega), if_neg (by omega)]
  · rw [if_neg c1]
    by_cases c2 : j = p
    · rw [if_pos c2, if_pos (by omega)]
      congr 1
      omega
    · rw [if_neg c2, if_neg (by omega), if_pos (by omega)]
      congr 1
      omega
/-- insertion into a family -/
def fIn (F : Nat → Nat) (p b : Nat) : Nat → Nat := fun j => if j < p then F j else if j = p then b else F (j - 1)
theorem pKy_Q (R : Nat → Int32) (mk : Nat) : pKy R mk = pQ R * 1000000 + mk := rfl
theorem pQ_e {R V : Nat → Int32} (e : ∀ w, w < 4 → R w = V w) : pQ R = pQ V := by
  unfold pQ
  rw [e 0 (by omega), e 1 (by omega), e 2 (by omega), e 3 (by omega)]
theorem kPs.ins {g : xH} {pl cnt mx b p : Nat} {D T B M : Nat → Nat} (L : kLl g pl (cnt + 1) D (va_up T cnt b)) (Pr : kPr g N cnt mx B M) (TI : qI T cnt) (TS : ∀ a, qS T cnt a ↔ qS B cnt a) (hb : kPl g b R mx) (ho : okR R mx) (c11 : cnt < 12) (nb : ∀ j, j < cnt → B j ≠ b) (hp : p = pPos N R 0 cnt) : kPs g pl (pIns N R p cnt) (mx + 1) D (va_up T cnt b) (fIn B p b) (fIn M p mx) ∧ p ≤ cnt := by
  have sp := pPos_spec (N := N) (R := R) cnt 0
  rw [← hp, Nat.zero_add] at sp
  obtain ⟨-, s2, s3, s4⟩ := sp
  refine ⟨?_, s2⟩
  have e3 : nn (pIns N R p cnt 3) = cnt + 1 := by
    unfold pIns
    rw [if_pos rfl, nn_of (by omega)]
  have row := fun j w (hj : j < cnt + 1) (hw : w < 5) => pIns_row (N := N) (R := R) (p := p) s2 hj hw
  have key : ∀ {a' m' : Nat} {V V' : Nat → Int32}, (∀ w, w < 5 → V' w = V w) → kPl g a' V m' → okR V m' → kPl g a' V' m' ∧ okR V' m' := by
    intro a' m' V V' qq k o
    obtain ⟨k1, k2, k3, k4, k5, k6, k7⟩ := k
    obtain ⟨o1, o2, o3, o4, o5, o6⟩ := o
    exact ⟨⟨k1, by rw [qq 0 (by omega)]; exact k2, by rw [qq 1 (by omega)]; exact k3, by rw [qq 2 (by omega)]; exact k4, by rw [qq 3 (by omega)]; exact k5, by rw [qq 4 (by omega)]; exact k6, k7⟩, ⟨fun w hw => by rw [qq w (by omega)]; exact o1 w hw, by rw [qq 0 (by omega)]; exact o2, by rw [qq 1 (by omega)]; exact o3, by rw [qq 2 (by omega)]; exact o4, by rw [qq 3 (by omega)]; exact o5, o6⟩⟩
  have qlo : ∀ j, j < p → pQ (pRw N j) ≤ pQ R := fun j hj => (pAh_iff (Pr.2.1 j (by omega)).2.1 ho).mp (s3 j (by omega) hj)
  have qp : p < cnt → pQ R < pQ (pRw N p) := fun z => by
    have := s4 z
    rw [pAh_iff (Pr.2.1 p z).2.1 ho] at this
    omega
  have qhi : ∀ j, p ≤ j → j < cnt → pQ R < pQ (pRw N j) := by
    intro j h1 h2
    by_cases e : j = p
    · rw [e]; exact qp (by omega)
    · have := Pr.2.2 p j (by omega) h2
      rw [pKy_Q, pKy_Q] at this
      have := qp (by omega)
      have := (Pr.2.1 p (by omega)).2.1.2.2.2.2.2
      have := (Pr.2.1 j h2).2.1.2.2.2.2.2
      omega
  unfold kPs
  rw [e3]
  refine ⟨L, ⟨by omega, fun j hj => ?_, fun i j ij jc => ?_⟩, ?_, fun a' => ?_⟩
  · unfold fIn
    by_cases c1 : j < p
    · rw [if_pos c1, if_pos c1]
      obtain ⟨k1, k2, k3⟩ := Pr.2.1 j (by omega)
      obtain ⟨r1, r2⟩ := key (V' := pRw (pIns N R p cnt) j) (fun w hw => by rw [row j w hj hw, if_pos c1]) k1 k2
      exact ⟨r1, r2, by omega⟩
    · rw [if_neg c1, if_neg c1]
      by_cases c2 : j = p
      · rw [if_pos c2, if_pos c2]
        obtain ⟨r1, r2⟩ := key (V' := pRw (pIns N R p cnt) j) (fun w hw => by rw [row j w hj hw, if_neg c1, if_pos c2]) hb ho
        exact ⟨r1, r2, by omega⟩
      · rw [if_neg c2, if_neg c2]
        obtain ⟨k1, k2, k3⟩ := Pr.2.1 (j - 1) (by omega)
        obtain ⟨r1, r2⟩ := key (V' := pRw (pIns N R p cnt) j) (fun w hw => by rw [row j w hj hw, if_neg c1, if_neg c2]) k1 k2
        exact ⟨r1, r2, by omega⟩
  · have qr : ∀ j, j < cnt + 1 → pQ (pRw (pIns N R p cnt) j) = if j < p then pQ (pRw N j) else if j = p then pQ R else pQ (pRw N (j - 1)) := by
      intro j hj
      by_cases c1 : j < p
      · rw [if_pos c1]
        exact pQ_e (fun w hw => by rw [row j w hj (by omega), if_pos c1])
      · rw [if_neg c1]
        by_cases c2 : j = p
        · rw [if_pos c2]
          exact pQ_e (fun w hw => by rw [row j w hj (by omega), if_neg c1, if_pos c2])
        · rw [if_neg c2]
          exact pQ_e (fun w hw => by rw [row j w hj (by omega), if_neg c1, if_neg c2])
    rw [pKy_Q, pKy_Q, qr i (by omega), qr j jc]
    unfold fIn
    have mm := fun j (hj : j < cnt) => (Pr.2.1 j hj).2.2
    have ml := fun j (hj : j < cnt) => (Pr.2.1 j hj).2.1.2.2.2.2.2
    have om := ho.2.2.2.2.2
    have st := fun i j (ij : i < j) (jc : j < cnt) => Pr.2.2 i j ij jc
    simp only [pKy_Q] at st
    by_cases c1 : i < p
    · rw [if_pos c1, if_pos c1]
      by_cases d1 : j < p
      · rw [if_pos d1, if_pos d1]; exact st i j ij (by omega)
      · rw [if_neg d1, if_neg d1]
        by_cases d2 : j = p
        · rw [if_pos d2, if_pos d2]
          have := qlo i c1
          have := mm i (by omega)
          omega
        · rw [if_neg d2, if_neg d2]; exact st i (j - 1) (by omega) (by omega)
    · rw [if_neg c1, if_neg c1, if_neg (show ¬ j < p by omega), if_neg (show ¬ j < p by omega), if_neg (show ¬ j = p by omega), if_neg (show ¬ j = p by omega)]
      by_cases c2 : i = p
      · rw [if_pos c2, if_pos c2]
        have := qhi (j - 1) (by omega) (by omega)
        have := ml (j - 1) (by omega)
        omega
      · rw [if_neg c2, if_neg c2]; exact st (i - 1) (j - 1) (by omega) (by omega)
  · intro i j hi hj z
    rw [va_ap, va_ap] at z
    have nT : ∀ i, i < cnt → T i ≠ b := fun i hi e => by
      obtain ⟨j, j1, j2⟩ := (TS (T i)).mp ⟨i, hi, rfl⟩
      exact nb j j1 (j2.trans e)
    by_cases c1 : i = cnt
    · by_cases c2 : j = cnt
      · omega
      · rw [if_pos c1, if_neg c2] at z
        exact absurd z.symm (nT j (by omega))
    · by_cases c2 : j = cnt
      · rw [if_neg c1, if_pos c2] at z
        exact absurd z (nT i (by omega))
      · rw [if_neg c1, if_neg c2] at z
        exact TI i j (by omega) (by omega) z
  · have lhs : qS (va_up T cnt b) (cnt + 1) a' ↔ qS T cnt a' ∨ a' = b := by
      constructor
      · rintro ⟨i, hi, z⟩
        rw [va_ap] at z
        by_cases c : i = cnt
        · rw [if_pos c] at z; exact Or.inr z.symm
        · rw [if_neg c] at z; exact Or.inl ⟨i, by omega, z⟩
      · rintro (⟨i, hi, z⟩ | z)
        · exact ⟨i, by omega, by rw [va_ap, if_neg (by omega)]; exact z⟩
        · exact ⟨cnt, by omega, by rw [va_ap, if_pos rfl]; exact z.symm⟩
    have rhs : qS (fIn B p b) (cnt + 1) a' ↔ qS B cnt a' ∨ a' = b := by
      unfold fIn
      constructor
      · rintro ⟨i, hi, z⟩
        dsimp only at z
        by_cases c : i < p
        · rw [if_pos c] at z; exact Or.inl ⟨i, by omega, z⟩
        · rw [if_neg c] at z
          by_cases c2 : i = p
          · rw [if_pos c2] at z; exact Or.inr z.symm
          · rw [if_neg c2] at z; exact Or.inl ⟨i - 1, by omega, z⟩
      · rintro (⟨i, hi, z⟩ | z)
        · by_cases c : i < p
          · exact ⟨i, by omega, by dsimp only; rw [if_pos c]; exact z⟩
          · exact ⟨i + 1, by omega, by dsimp only; rw [if_neg (by omega), if_neg (by omega), Nat.add_sub_cancel]; exact z⟩
        · exact ⟨p, by omega, by dsimp only; rw [if_neg (by omega), if_pos rfl]; exact z.symm⟩
    rw [lhs, rhs, TS a']
theorem okN.ins {p cnt s y : Nat} (ok : okN N) (hc : nn (N 3) = cnt) (h12 : cnt < 12) (hp : p ≤ cnt) (hs : s < nn (N 0)) (hy : y ≤ nn (N (zI s 1))) (r2 : R 2 = Int32.ofNat s) (r3 : R 3 = Int32.ofNat y) : okN (pIns N R p cnt) := by
  obtain ⟨a1, a2, a3, a4, a5, a6, a7, a8, a9, a10⟩ := ok
  have z12 := (a9 s hs).2.1
  have e0 : pIns N R p cnt 0 = N 0 := by unfold pIns; rw [if_neg (by omega), if_neg (by omega), if_neg (by omega)]
  have e1 : pIns N R p cnt 1 = N 1 := by unfold pIns; rw [if_neg (by omega), if_neg (by omega), if_neg (by omega)]
  have e2 : pIns N R p cnt 2 = N 2 := by unfold pIns; rw [if_neg (by omega), if_neg (by omega), if_neg (by omega)]
  have e3 : pIns N R p cnt 3 = Int32.ofNat (cnt + 1) := by unfold pIns; rw [if_pos rfl]
  have ez : ∀ s w, pIns N R p cnt (zI s w) = N (zI s w) := fun s w => by unfold pIns zI; rw [if_neg (by omega), if_neg (by omega), if_neg (by omega)]
  unfold okN
  rw [e0, e1, e2, e3, nn_of (by omega)]
  refine ⟨a1, a2, a3, a4, a5, a6, nN_of _ (by omega), by omega, fun t ht => ?_, fun j hj => ?_⟩
  · unfold okS
    rw [ez, ez]
    exact a9 t ht
  · unfold okP
    have q2 := pIns_row (N := N) (R := R) (p := p) (cnt := cnt) (j := j) (w := 2) hp (by omega) (by omega)
    have q3 := pIns_row (N := N) (R := R) (p := p) (cnt := cnt) (j := j) (w := 3) hp (by omega) (by omega)
    unfold pRw at q2 q3
    rw [q2, q3, e0, ez]
    by_cases c1 : j < p
    · rw [if_pos c1, if_pos c1]
      exact a10 j (by omega)
    · rw [if_neg c1, if_neg c1]
      by_cases c2 : j = p
      · rw [if_pos c2, if_pos c2, r2, r3, nn_of (by omega), nn_of (by omega)]
        exact ⟨nN_of _ (by omega), hs, nN_of _ (by omega), hy⟩
      · rw [if_neg c2, if_neg c2]
        exact a10 (j - 1) (by omega)
end PI
