/-! part 521: search trees by ranges of places: a is a node at place ps a, its subtree holds the places lo a .. hi a - 1 -/
def nd (k : Nat) (e ps : Nat → Nat) (a : Nat) : Prop := ps a < k ∧ e (ps a) = a
abbrev oN : Type := Nat → Option Nat
def pT (k : Nat) (e ps : Nat → Nat) (l r p : oN) (rt : Option Nat) (lo hi : Nat → Nat) : Prop :=
  (∀ i, i < k → ps (e i) = i) ∧ (∀ a, nd k e ps a → lo a ≤ ps a ∧ ps a < hi a ∧ hi a ≤ k) ∧
  (∀ a, nd k e ps a → l a = none → lo a = ps a) ∧ (∀ a b, nd k e ps a → l a = some b → nd k e ps b ∧ lo b = lo a ∧ hi b = ps a ∧ p b = some a) ∧
  (∀ a, nd k e ps a → r a = none → hi a = ps a + 1) ∧ (∀ a b, nd k e ps a → r a = some b → nd k e ps b ∧ lo b = ps a + 1 ∧ hi b = hi a ∧ p b = some a) ∧
  (∀ a, nd k e ps a → p a = none → rt = some a) ∧ (∀ a b, nd k e ps a → p a = some b → nd k e ps b ∧ (l b = some a ∨ r b = some a)) ∧
  (rt = none → k = 0) ∧ (∀ a, rt = some a → nd k e ps a ∧ lo a = 0 ∧ hi a = k ∧ p a = none)
theorem nd_eq {k : Nat} {e ps : Nat → Nat} {a b : Nat} (h1 : nd k e ps a) (h2 : nd k e ps b) (h : ps a = ps b) : a = b := by rw [← h1.2, ← h2.2, h]
section ROT
variable {k : Nat} {e ps : Nat → Nat} {l r p : oN} {rt : Option Nat} {lo hi : Nat → Nat}
/-- b comes to the place of its parent a, whose right child it is; the parent of a is q -/
theorem pT.rotL {a b : Nat} {l' r' p' : oN} {rt' : Option Nat} (T : pT k e ps l r p rt lo hi) (ha : nd k e ps a) (hr : r a = some b)
    (hl' : ∀ x, l' x = if x = b then some a else if p a = some x ∧ l x = some a then some b else l x)
    (hr' : ∀ x, r' x = if x = a then l b else if p a = some x ∧ ¬ l x = some a then some b else r x)
    (hp' : ∀ x, p' x = if x = a then some b else if x = b then p a else if l b = some x then some a else p x)
    (hrt : rt' = if p a = none then some b else rt) : pT k e ps l' r' p' rt' (va_up lo b (lo a)) (va_up hi a (ps b)) := by
  obtain ⟨t1, t2, t3, t4, t5, t6, t7, t8, t9, t10⟩ := T
  obtain ⟨hb, lb, hb2, pb⟩ := t6 a b ha hr
  have ba := t2 a ha
  have bb := t2 b hb
  have ab : a ≠ b := by rintro rfl; omega
  have psab : ps a < ps b := by omega
  /- the left child of b -/
  have lc : ∀ c, l b = some c → nd k e ps c ∧ lo c = ps a + 1 ∧ hi c = ps b ∧ p c = some b ∧ c ≠ a ∧ c ≠ b := by
    intro c hc
    obtain ⟨c1, c2, c3, c4⟩ := t4 b c hb hc
    have := t2 c c1
    exact ⟨c1, by omega, c3, c4, by rintro rfl; omega, by rintro rfl; omega⟩
  /- the parent of a -/
  have qa : ∀ q, p a = some q → nd k e ps q ∧ q ≠ a ∧ q ≠ b ∧ (l q = some a ∨ r q = some a) := by
    intro q hq
    obtain ⟨q1, q2⟩ := t8 a q ha hq
    have b1 := t2 q q1
    rcases q2 with q2 | q2
    · obtain ⟨-, d1, d2, -⟩ := t4 q a q1 q2
      exact ⟨q1, by rintro rfl; omega, by rintro rfl; omega, Or.inl q2⟩
    · obtain ⟨-, d1, d2, -⟩ := t6 q a q1 q2
      exact ⟨q1, by rintro rfl; omega, by rintro rfl; omega, Or.inr q2⟩
  refine ⟨t1, fun x hx => ?_, fun x hx h0 => ?_, fun x y hx h0 => ?_, fun x hx h0 => ?_, fun x y hx h0 => ?_, fun x hx h0 => ?_, fun x y hx h0 => ?_, fun h0 => ?_, fun x h0 => ?_⟩
  · have := t2 x hx
    simp only [va_ap]
    split
    · rename_i c; subst c
      rw [if_neg ab.symm]
      omega
    · split
      · rename_i c; subst c; omega
      · omega
  · /- l' x = none -/
    rw [hl'] at h0
    split at h0
    · cases h0
    · split at h0
      · cases h0
      · rename_i c1 c2
        rw [va_up_ne _ _ c1]
        exact t3 x hx h0
  · /- l' x = some y -/
    rw [hl'] at h0
    split at h0
    · rename_i c1
      subst c1
      cases h0
      refine ⟨ha, ?_, va_up_self _ _ _, by rw [hp', if_pos rfl]⟩
      rw [va_up_ne _ _ ab, va_up_self]
    · rename_i c1
      split at h0
      · rename_i c2
        cases h0
        have := t4 x a hx c2.2
        refine ⟨hb, ?_, ?_, by rw [hp', if_neg ab.symm, if_pos rfl]; exact c2.1⟩
        · rw [va_up_self, va_up_ne _ _ c1]; exact this.2.1
        · rw [va_up_ne _ _ ab.symm, hb2]; exact this.2.2.1
      · rename_i c2
        obtain ⟨d1, d2, d3, d4⟩ := t4 x y hx h0
        have ya : y ≠ a := by
          rintro rfl
          exact c2 ⟨d4, h0⟩
        have yb : y ≠ b := by
          rintro rfl
          rw [pb] at d4
          cases d4
          omega
        refine ⟨d1, by rw [va_up_ne _ _ yb, va_up_ne _ _ c1]; exact d2, by rw [va_up_ne _ _ ya]; exact d3, ?_⟩
        rw [hp', if_neg ya, if_neg yb, if_neg, d4]
        intro z
        have := (lc y z).2.2.2.1
        rw [d4] at this
        cases this
        exact c1 rfl
  · /- r' x = none -/
    rw [hr'] at h0
    split at h0
    · rename_i c1
      subst c1
      have := t3 b hb h0
      rw [va_up_self]
      omega
    · rename_i c1
      split at h0
      · cases h0
      · rw [va_up_ne _ _ c1]
        exact t5 x hx h0
  · /- r' x = some y -/
    rw [hr'] at h0
    split at h0
    · rename_i c1
      subst c1
      obtain ⟨c1, c2, c3, c4, c5, c6⟩ := lc y h0
      refine ⟨c1, by rw [va_up_ne _ _ c6]; exact c2, by rw [va_up_ne _ _ c5, va_up_self]; exact c3, ?_⟩
      rw [hp', if_neg c5, if_neg c6, if_pos h0]
    · rename_i c1
      split at h0
      · rename_i c2
        cases h0
        obtain ⟨q1, q2, q3, q4⟩ := qa x c2.1
        have q5 : r x = some a := by
          rcases q4 with q4 | q4
          · exact absurd q4 c2.2
          · exact q4
        have := t6 x a q1 q5
        refine ⟨hb, by rw [va_up_self]; exact this.2.1, by rw [va_up_ne _ _ ab.symm, va_up_ne _ _ c1, hb2]; exact this.2.2.1, by rw [hp', if_neg ab.symm, if_pos rfl]; exact c2.1⟩
      · rename_i c2
        obtain ⟨d1, d2, d3, d4⟩ := t6 x y hx h0
        have yb : y ≠ b := by
          rintro rfl
          rw [pb] at d4
          cases d4
          exact c1 rfl
        have ya : y ≠ a := by
          rintro rfl
          apply c2
          refine ⟨d4, fun z => ?_⟩
          have := t4 x y hx z
          omega
        refine ⟨d1, by rw [va_up_ne _ _ yb]; exact d2, by rw [va_up_ne _ _ ya, va_up_ne _ _ c1]; exact d3, ?_⟩
        rw [hp', if_neg ya, if_neg yb, if_neg, d4]
        intro z
        have z1 := lc y z
        have z2 := z1.2.2.2.1
        rw [d4] at z2
        cases z2
        omega
  · /- p' x = none -/
    rw [hp'] at h0
    split at h0
    · cases h0
    · split at h0
      · rename_i c1 c2
        subst c2
        rw [hrt, if_pos h0]
      · split at h0
        · cases h0
        · rename_i c1 c2 c3
          have h1 := t7 x hx h0
          rw [hrt, if_neg]
          · exact h1
          · intro z
            have := t7 a ha z
            rw [h1] at this
            cases this
            exact c1 rfl
  · /- p' x = some y -/
    rw [hp'] at h0
    split at h0
    · rename_i c1
      subst c1
      cases h0
      exact ⟨hb, Or.inl (by rw [hl', if_pos rfl])⟩
    · rename_i c1
      split at h0
      · rename_i c2
        subst c2
        obtain ⟨q1, q2, q3, q4⟩ := qa y h0
        refine ⟨q1, ?_⟩
        by_cases c3 : l y = some a
        · exact Or.inl (by rw [hl', if_neg q3, if_pos ⟨h0, c3⟩])
        · exact Or.inr (by rw [hr', if_neg q2, if_pos ⟨h0, c3⟩])
      · rename_i c2
        split at h0
        · rename_i c3
          cases h0
          exact ⟨ha, Or.inr (by rw [hr', if_pos rfl]; exact c3)⟩
        · rename_i c3
          obtain ⟨d1, d2⟩ := t8 x y hx h0
          refine ⟨d1, ?_⟩
          rcases d2 with d2 | d2
          · have yb : y ≠ b := by
              rintro rfl
              exact c3 d2
            refine Or.inl ?_
            rw [hl', if_neg yb, if_neg]
            · exact d2
            · rintro ⟨z1, z2⟩
              rw [d2] at z2
              cases z2
              exact c1 rfl
          · have ya : y ≠ a := by
              rintro rfl
              rw [hr] at d2
              cases d2
              exact c2 rfl
            refine Or.inr ?_
            rw [hr', if_neg ya, if_neg]
            · exact d2
            · rintro ⟨z1, z2⟩
              obtain ⟨q1, q2, q3, q4⟩ := qa y z1
              rcases q4 with q4 | q4
              · exact z2 q4
              · rw [d2] at q4
                cases q4
                exact c1 rfl
  · rw [hrt] at h0
    split at h0
    · cases h0
    · exact t9 h0
  · rw [hrt] at h0
    split at h0
    · rename_i c1
      cases h0
      have h1 := t10 a (t7 a ha c1)
      exact ⟨hb, by rw [va_up_self]; exact h1.2.1, by rw [va_up_ne _ _ ab.symm, hb2]; exact h1.2.2.1, by rw [hp', if_neg ab.symm, if_pos rfl]; exact c1⟩
    · rename_i c1
      obtain ⟨d1, d2, d3, d4⟩ := t10 x h0
      have xa : x ≠ a := by
        rintro rfl
        exact c1 d4
      have xb : x ≠ b := by
        rintro rfl
        rw [pb] at d4
        cases d4
      refine ⟨d1, by rw [va_up_ne _ _ xb]; exact d2, by rw [va_up_ne _ _ xa]; exact d3, ?_⟩
      rw [hp', if_neg xa, if_neg xb, if_neg, d4]
      intro z
      have := (lc x z).2.2.2.1
      rw [d4] at this
      cases this
end ROT
