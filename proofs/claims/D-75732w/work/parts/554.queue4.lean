/-! part 554: the plans of a state, by their turns -/
def pRw (N : Nat → Int32) (j : Nat) : Nat → Int32 := fun w => N (4 + 5 * j + w)
/-- c plans: B j is the plan in row j, made as number M j (below mx), rows in the order of turns -/
def kPr (h : xH) (N : Nat → Int32) (c mx : Nat) (B M : Nat → Nat) : Prop := c ≤ 12 ∧ (∀ j, j < c → kPl h (B j) (pRw N j) (M j) ∧ okR (pRw N j) (M j) ∧ M j < mx) ∧ ∀ i j, i < j → j < c → pKy (pRw N i) (M i) < pKy (pRw N j) (M j)
/-- the list pl holds them, in any order -/
def kPs (h : xH) (pl : Nat) (N : Nat → Int32) (mx : Nat) (D T B M : Nat → Nat) : Prop := kLl h pl (nn (N 3)) D T ∧ kPr h N (nn (N 3)) mx B M ∧ qI T (nn (N 3)) ∧ ∀ a, qS T (nn (N 3)) a ↔ qS B (nn (N 3)) a
/-- a queue that holds the rows from k on -/
def kQB (κ B q : Nat → Nat) (k c : Nat) : Prop := qH κ q (c - k) ∧ qI q (c - k) ∧ ∀ a, qS q (c - k) a ↔ ∃ j, k ≤ j ∧ j < c ∧ a = B j
theorem ex_inv {B K : Nat → Nat} {c : Nat} (inj : ∀ i j, i < c → j < c → B i = B j → i = j) : ∃ κ : Nat → Nat, ∀ j, j < c → κ (B j) = K j := by
  classical
  refine ⟨fun a => if H : ∃ j, j < c ∧ B j = a then K H.choose else 0, fun j hj => ?_⟩
  have H : ∃ i, i < c ∧ B i = B j := ⟨j, hj, rfl⟩
  have e := H.choose_spec
  show (if H : ∃ i, i < c ∧ B i = B j then K H.choose else 0) = K j
  rw [dif_pos H, inj _ _ e.1 hj e.2]
section KQ4
variable {Γ : Nat → Option Nat} {h g : xH} {n qu qa cm c mx : Nat} {mc : Int32} {N : Nat → Int32} {B M κ q : Nat → Nat}
theorem kPr.inj (P : kPr h N c mx B M) : ∀ i j, i < c → j < c → B i = B j → i = j := by
  intro i j hi hj e
  rcases Nat.lt_trichotomy i j with z | z | z
  · have := P.2.2 i j z hj
    have a := (P.2.1 i hi).1
    have b := (P.2.1 j hj).1
    rw [e] at a
    exfalso
    have e0 : ∀ w, w < 4 → pRw N i w = pRw N j w := by
      intro w hw
      have pa := k_plPart (Γ := fun _ => none) (n := 0) a (show w < 5 by omega)
      have pb := k_plPart (Γ := fun _ => none) (n := 0) b (show w < 5 by omega)
      rw [pa] at pb
      injection pb with pb
      injection pb with pb
      injection pb with pb
    have em : M i = M j := by
      have ma := a.2.2.2.2.2.2
      rw [b.2.2.2.2.2.2] at ma
      have la := (P.2.1 i hi).2.1.2.2.2.2.2
      have lb := (P.2.1 j hj).2.1.2.2.2.2.2
      exact ((i_eq (by omega) (by omega)).mp ma).symm
    unfold pKy at this
    rw [e0 0 (by omega), e0 1 (by omega), e0 2 (by omega), e0 3 (by omega), em] at this
    omega
  · exact z
  · have := P.2.2 j i z hi
    have a := (P.2.1 i hi).1
    have b := (P.2.1 j hj).1
    rw [e] at a
    exfalso
    have e0 : ∀ w, w < 4 → pRw N i w = pRw N j w := by
      intro w hw
      have pa := k_plPart (Γ := fun _ => none) (n := 0) a (show w < 5 by omega)
      have pb := k_plPart (Γ := fun _ => none) (n := 0) b (show w < 5 by omega)
      rw [pa] at pb
      injection pb with pb
      injection pb with pb
      injection pb with pb
    have em : M i = M j := by
      have ma := a.2.2.2.2.2.2
      rw [b.2.2.2.2.2.2] at ma
      have la := (P.2.1 i hi).2.1.2.2.2.2.2
      have lb := (P.2.1 j hj).2.1.2.2.2.2.2
      exact ((i_eq (by omega) (by omega)).mp ma).symm
    unfold pKy at this
    rw [e0 0 (by omega), e0 1 (by omega), e0 2 (by omega), e0 3 (by omega), em] at this
    omega
theorem kPr.cg (P : kPr h N c mx B M) (e : ∀ q c, yO h c q → (c = 38 ∨ (50 ≤ c ∧ c < 53)) → g q = h q) : kPr g N c mx B M := ⟨P.1, fun j hj => ⟨(P.2.1 j hj).1.cg e, (P.2.1 j hj).2⟩, P.2.2⟩
theorem kPr.sub (P : kPr h N c mx B M) (hs : hsub h g) : kPr g N c mx B M := P.cg (fun _ _ h1 _ => hs _ (yO_at h1))
/-- plans are compared, whatever the queue holds -/
theorem kCq_of (P : kPr h N c mx B M) (hs : ∀ a, h a ≠ none → a ≠ qu → a ≠ qa → g a = h a) (nu : ∀ c, c ≠ 33 → ¬ yO h c qu) (na : ∀ c, ¬ yO h c qa) (hcm : yO g 34 cm) (n1 : cm ≠ qu) (n2 : cm ≠ qa) (hκ : ∀ j, j < c → κ (B j) = pKy (pRw N j) (M j)) : kCq Γ g qu qa cm (fun a => ∃ j, j < c ∧ a = B j) κ := by
  intro c' mc'
  have key : ∀ f, kPr (kQA (xupd g qu (kQc qa cm c' mc')) qa f) N c mx B M ∧ yO (kQA (xupd g qu (kQc qa cm c' mc')) qa f) 34 cm := by
    intro f
    constructor
    · refine P.cg (fun r cc h1 h2 => ?_)
      have r1 : r ≠ qu := fun z => nu cc (by omega) (by rw [← z]; exact h1)
      have r2 : r ≠ qa := fun z => na cc (by rw [← z]; exact h1)
      unfold kQA
      rw [up_ne r2, up_ne r1]
      exact hs r (yO_at h1) r1 r2
    · exact (yO_c (show kQA (xupd g qu (kQc qa cm c' mc')) qa f cm = g cm by unfold kQA; rw [up_ne n2, up_ne n1])).mpr hcm
  constructor
  · rintro f n a b ⟨i, hi, rfl⟩ ⟨j, hj, rfl⟩
    obtain ⟨P', hc'⟩ := key f
    rw [hκ i hi, hκ j hj]
    exact k_cmpPl hc' (P'.2.1 i hi).1 (P'.2.1 j hj).1 (P'.2.1 i hi).2.1 (P'.2.1 j hj).2.1
  · rintro f a ⟨i, hi, rfl⟩
    obtain ⟨P', hc'⟩ := key f
    exact k_okR (P'.2.1 i hi).1.1 rfl
/-- the next row is polled -/
theorem k_pollB {k : Nat} (C : kCq Γ g qu qa cm (fun a => ∃ j, j < c ∧ a = B j) κ) (d : qu ≠ qa) (c12 : c ≤ 12) (hk : k < c) (mo : ∀ i j, i < j → j < c → κ (B i) < κ (B j)) (H : kQB κ B q k c) : ∃ q' mc', xsel (some qu) [(33, fun z => fJ45_poll z)] Γ (kQu g qu qa cm (c - k) mc (kF q (c - k))) n = some (.inl (some (B k)), kQu g qu qa cm (c - (k + 1)) mc' (kF q' (c - (k + 1))), 0, 0) ∧ kQB κ B q' (k + 1) c ∧ q 0 = B k := by
  obtain ⟨H1, H2, H3⟩ := H
  obtain ⟨e, he⟩ : ∃ e, c - k = e + 1 := ⟨c - k - 1, by omega⟩
  have he' : c - (k + 1) = e := by omega
  rw [he] at H1 H2 H3
  obtain ⟨q', mc', p1, p2, p3, p4, p5⟩ := k_qPoll (n := n) (mc := mc) C d (show e + 1 ≤ 12 by omega) (fun i hi => by
    obtain ⟨j, j1, j2, j3⟩ := (H3 (q i)).mp ⟨i, hi, rfl⟩
    exact ⟨j, j2, j3⟩) H1 H2
  have q0 : q 0 = B k := by
    obtain ⟨j, j1, j2, j3⟩ := (H3 (q 0)).mp ⟨0, by omega, rfl⟩
    have := p5 (B k) ((H3 (B k)).mpr ⟨k, Nat.le_refl _, hk, rfl⟩)
    rw [j3] at this
    rcases Nat.lt_or_ge k j with z | z
    · have := mo k j z j2
      omega
    · rw [j3, show j = k by omega]
  rw [he, he', ← q0]
  refine ⟨q', mc', p1, ⟨by rw [he']; exact p2, by rw [he']; exact p3, fun a => ?_⟩, rfl⟩
  rw [he', p4 a, H3 a]
  constructor
  · rintro ⟨⟨j, j1, j2, j3⟩, ne⟩
    have : j ≠ k := fun z => ne (by rw [j3, z, q0])
    exact ⟨j, by omega, j2, j3⟩
  · rintro ⟨j, j1, j2, j3⟩
    refine ⟨⟨j, by omega, j2, j3⟩, fun z => ?_⟩
    have := mo k j (by omega) j2
    rw [← j3, z, q0] at this
    omega
end KQ4
