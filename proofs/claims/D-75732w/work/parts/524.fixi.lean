/-! part 524: the tree: null-safe steps, the repair behind an insertion -/
/-- a tree with its pointers, ranges and colors -/
def tS (h : xH) (m k : Nat) (e ps : Nat → Nat) (l r p : oN) (rt : Option Nat) (lo hi : Nat → Nat) : Prop := kE h m k e ps l r p rt ∧ pT k e ps l r p rt lo hi ∧ ∀ a, nd k e ps a → yi h 36 5 a = Int32.ofNat 0 ∨ yi h 36 5 a = Int32.ofNat 1
def vO (k : Nat) (e ps : Nat → Nat) (x : Option Nat) : Prop := ∀ a, x = some a → nd k e ps a
/-- a color is set, if there is a node -/
def kSc (h : xH) (x : Option Nat) (v : Int32) : xH := match x with
  | none => h
  | some a => ysi h 36 5 a v
def kCl (h : xH) (x : Option Nat) : Int32 := match x with
  | none => Int32.ofNat 1
  | some a => yi h 36 5 a
section KN
variable {Γ : Nat → Option Nat} {h : xH} {n m k : Nat} {e ps : Nat → Nat} {l r p : oN} {rt : Option Nat} {lo hi : Nat → Nat} {x : Option Nat}
theorem vO.up (T : tS h m k e ps l r p rt lo hi) (hx : vO k e ps x) : vO k e ps (x.bind p) := by
  intro b hb
  rcases x with _ | a
  · cases hb
  · exact (T.2.1.2.2.2.2.2.2.2.1 a b (hx a rfl) hb).1
theorem vO.lt (T : tS h m k e ps l r p rt lo hi) (hx : vO k e ps x) : vO k e ps (x.bind l) := by
  intro b hb
  rcases x with _ | a
  · cases hb
  · exact (T.2.1.2.2.2.1 a b (hx a rfl) hb).1
theorem vO.rgt (T : tS h m k e ps l r p rt lo hi) (hx : vO k e ps x) : vO k e ps (x.bind r) := by
  intro b hb
  rcases x with _ | a
  · cases hb
  · exact (T.2.1.2.2.2.2.2.1 a b (hx a rfl) hb).1
theorem vO.s {a : Nat} (ha : nd k e ps a) : vO k e ps (some a) := fun b hb => by cases hb; exact ha
theorem vO.no : vO k e ps none := fun b hb => nomatch hb
theorem k_pOf (T : tS h m k e ps l r p rt lo hi) (hx : vO k e ps x) : fJ29_parentOf x Γ h n = some (.inl (x.bind p), h, 0, 0) := by
  unfold fJ29_parentOf
  rcases x with _ | a
  · rw [if_pos rfl]; rfl
  · rw [if_neg (fun z => nomatch z), x_b1 (T.1.gp (hx a rfl))]; rfl
theorem k_lOf (T : tS h m k e ps l r p rt lo hi) (hx : vO k e ps x) : fJ29_leftOf x Γ h n = some (.inl (x.bind l), h, 0, 0) := by
  unfold fJ29_leftOf
  rcases x with _ | a
  · rw [if_pos rfl]; rfl
  · rw [if_neg (fun z => nomatch z), x_b1 (T.1.gl (hx a rfl))]; rfl
theorem k_rOf (T : tS h m k e ps l r p rt lo hi) (hx : vO k e ps x) : fJ29_rightOf x Γ h n = some (.inl (x.bind r), h, 0, 0) := by
  unfold fJ29_rightOf
  rcases x with _ | a
  · rw [if_pos rfl]; rfl
  · rw [if_neg (fun z => nomatch z), x_b1 (T.1.gr (hx a rfl))]; rfl
theorem k_cOf (T : tS h m k e ps l r p rt lo hi) (hx : vO k e ps x) : fJ29_colorOf x Γ h n = some (.inl (kCl h x), h, 0, 0) := by
  unfold fJ29_colorOf
  rcases x with _ | a
  · rw [if_pos rfl]; rfl
  · have g := e_gI (Γ := Γ) (n := n) (yO_of _ _ _ (T.1.2.2 a (hx a rfl)).1) kn36_5
    rw [if_neg (fun z => nomatch z), x_b1 g]
    rcases T.2.2 a (hx a rfl) with c | c
    · have z : kCl h (some a) = Int32.ofNat 0 := c
      rw [c, x_ret0, z]; rfl
    · have z : kCl h (some a) = Int32.ofNat 1 := c
      rw [c, x_ret1, z]; rfl
theorem tS.sc {v : Int32} (T : tS h m k e ps l r p rt lo hi) (hx : vO k e ps x) (hv : v = Int32.ofNat 0 ∨ v = Int32.ofNat 1) : tS (kSc h x v) m k e ps l r p rt lo hi ∧ kSame h (kSc h x v) m k e ps ∧ ∀ a, nd k e ps a → yi (kSc h x v) 36 5 a = if x = some a then v else yi h 36 5 a := by
  rcases x with _ | a
  · exact ⟨T, kSame.refl, fun b _ => by rw [if_neg (fun z => nomatch z)]; rfl⟩
  · have ha := hx a rfl
    have W := (T.1.2.2 a ha).1
    have cc : ∀ b, yi (ysi h 36 5 a v) 36 5 b = if (some a : Option Nat) = some b then v else yi h 36 5 b := by
      intro b
      rw [yi_si W kn36_5]
      by_cases c : b = a
      · rw [if_pos ⟨rfl, rfl, c⟩, if_pos (by rw [c])]
      · rw [if_neg (fun z => c z.2.2), if_neg (fun z => c (Option.some.inj z).symm)]
    show tS (ysi h 36 5 a v) m k e ps l r p rt lo hi ∧ kSame h (ysi h 36 5 a v) m k e ps ∧ ∀ b, nd k e ps b → yi (ysi h 36 5 a v) 36 5 b = if (some a : Option Nat) = some b then v else yi h 36 5 b
    refine ⟨⟨⟨(yW_sv _ _ _ _ _ _ _).mpr T.1.1, ?_, fun b hb => ?_⟩, T.2.1, fun b hb => ?_⟩, kSame.col ha W, fun b _ => cc b⟩
    · rw [yr_si W kn36_5 _ _ _ (by omega)]; exact T.1.2.1
    · obtain ⟨h1, h2, h3, h4⟩ := T.1.2.2 b hb
      exact ⟨(yW_sv _ _ _ _ _ _ _).mpr h1, by rw [yr_si W kn36_5 _ _ _ (by omega)]; exact h2, by rw [yr_si W kn36_5 _ _ _ (by omega)]; exact h3, by rw [yr_si W kn36_5 _ _ _ (by omega)]; exact h4⟩
    · show yi (ysi h 36 5 a v) 36 5 b = _ ∨ _
      rw [cc b]
      split
      · exact hv
      · exact T.2.2 b hb
theorem nb0 : narrow .boolean (.int (Int32.ofNat 0)) = .int (Int32.ofNat 0) ∧ fits .boolean (.int (Int32.ofNat 0)) = true := by decide
theorem nb1 : narrow .boolean (.int (Int32.ofNat 1)) = .int (Int32.ofNat 1) ∧ fits .boolean (.int (Int32.ofNat 1)) = true := by decide
theorem k_sc {v : Int32} (T : tS h m k e ps l r p rt lo hi) (hx : vO k e ps x) (hv : v = Int32.ofNat 0 ∨ v = Int32.ofNat 1) : fJ29_setColor x v Γ h n = some (.inl (), kSc h x v, 0, 0) := by
  unfold fJ29_setColor
  rcases x with _ | a
  · rw [if_pos rfl]; rfl
  · have W := (T.1.2.2 a (hx a rfl)).1
    have g : xpN 36 5 .boolean (some a) v Γ h n = some (.inl (), ysi h 36 5 a v, 0, 0) := by
      rcases hv with rfl | rfl
      · exact e_pN W kn36_5 nb0
      · exact e_pN W kn36_5 nb1
    rw [if_neg (fun z => nomatch z), x_b1 g]
    rfl
/-- a parent's range is larger -/
theorem pT.up {a b : Nat} (T : pT k e ps l r p rt lo hi) (ha : nd k e ps a) (hp : p a = some b) : nd k e ps b ∧ hi a - lo a < hi b - lo b := by
  obtain ⟨hb, h1⟩ := T.2.2.2.2.2.2.2.1 a b ha hp
  have b1 := T.2.1 a ha
  have b2 := T.2.1 b hb
  rcases h1 with h1 | h1
  · have := T.2.2.2.1 b a hb h1
    exact ⟨hb, by omega⟩
  · have := T.2.2.2.2.2.1 b a hb h1
    exact ⟨hb, by omega⟩
theorem tS.rotL {a b : Nat} (T : tS h m k e ps l r p rt lo hi) (ha : nd k e ps a) (hr : r a = some b) : ∃ g l' r' p' rt' lo' hi', fJ29_rotateLeft m (some a) Γ h n = some (.inl (), g, 0, 0) ∧ tS g m k e ps l' r' p' rt' lo' hi' ∧ kSame h g m k e ps ∧ kCol h g ∧ (∀ x, p' x = if x = a then some b else if x = b then p a else if l b = some x then some a else p x) ∧ rt' = (if p a = none then some b else rt) := by
  obtain ⟨g, l', r', p', rt', lo', hi', e1, e2, e3, e4, e5, e6, e7⟩ := k_rotL (Γ := Γ) (n := n) T.2.1 T.1 ha hr
  exact ⟨g, l', r', p', rt', lo', hi', e1, ⟨e2, e3, fun x hx => by rw [e5 x]; exact T.2.2 x hx⟩, e4, e5, e6, e7⟩
theorem tS.rotR {a b : Nat} (T : tS h m k e ps l r p rt lo hi) (ha : nd k e ps a) (hr : l a = some b) : ∃ g l' r' p' rt' lo' hi', fJ29_rotateRight m (some a) Γ h n = some (.inl (), g, 0, 0) ∧ tS g m k e ps l' r' p' rt' lo' hi' ∧ kSame h g m k e ps ∧ kCol h g ∧ (∀ x, p' x = if x = a then some b else if x = b then p a else if r b = some x then some a else p x) ∧ rt' = (if p a = none then some b else rt) := by
  obtain ⟨g, l', r', p', rt', lo', hi', e1, e2, e3, e4, e5, e6, e7⟩ := k_rotR (Γ := Γ) (n := n) T.2.1 T.1 ha hr
  exact ⟨g, l', r', p', rt', lo', hi', e1, ⟨e2, e3, fun x hx => by rw [e5 x]; exact T.2.2 x hx⟩, e4, e5, e6, e7⟩
/-- the tree again, with pointers of some kind -/
def tR (h g : xH) (m k : Nat) (e ps : Nat → Nat) : Prop := (∃ l r p rt lo hi, tS g m k e ps l r p rt lo hi) ∧ kSame h g m k e ps
theorem k_fi258 (T : tS h m k e ps l r p rt lo hi) (hk : 0 < k) : ∃ g, fJ29_fixAfterInsertion_p258 m Γ h n = some (.inl (), g, 0, 0) ∧ tR h g m k e ps := by
  have i1 : (1 : Int32) = Int32.ofNat 1 := rfl
  cases hrt : rt with
  | none => exact absurd (T.2.1.2.2.2.2.2.2.2.2.1 hrt) (by omega)
  | some a =>
    have ha := (T.2.1.2.2.2.2.2.2.2.2.2 a hrt).1
    have W := (T.1.2.2 a ha).1
    have g := T.1.grt (Γ := Γ) (n := n)
    rw [hrt] at g
    obtain ⟨t1, t2, t3⟩ := T.sc (x := some a) (v := Int32.ofNat 1) (vO.s ha) (Or.inr rfl)
    refine ⟨_, ?_, ⟨_, _, _, _, _, _, t1⟩, t2⟩
    unfold fJ29_fixAfterInsertion_p258
    rw [x_b1 g, i1, x_b1 (e_pN W kn36_5 nb1)]
    rfl
/-- the loop ends at a node whose parent is black -/
theorem k_fiStop {a fu : Nat} (T : tS h m k e ps l r p rt lo hi) (ha : nd k e ps a) (hc : ∀ b, p a = some b → yi h 36 5 b = Int32.ofNat 1) : ∃ g, fJ29_fixAfterInsertion_p5 (fu + 1) m (some a) Γ h n = some (.inl (), g, 0, 0) ∧ tR h g m k e ps := by
  have hk : 0 < k := by have := ha.1; omega
  obtain ⟨g, e1, r1⟩ := k_fi258 (Γ := Γ) (n := n) T hk
  refine ⟨g, ?_, r1⟩
  rw [fJ29_fixAfterInsertion_p5, if_neg (fun z => nomatch z), x_b1 T.1.grt]
  by_cases c1 : some a = rt
  · rw [if_pos c1]; exact e1
  · rw [if_neg c1, x_b1 (T.1.gp ha)]
    cases hp : p a with
    | none => exact absurd (T.2.1.2.2.2.2.2.2.1 a ha hp).symm c1
    | some b =>
      have hb := (T.2.1.up ha hp).1
      have g2 := e_gI (Γ := Γ) (n := n) (yO_of _ _ _ (T.1.2.2 b hb).1) kn36_5
      rw [hc b hp] at g2
      rw [x_b1 g2, if_neg (show ¬ Int32.ofNat 1 = 0 from b2i_1)]
      exact e1
/-- the last steps: parent black, its parent red, and turned -/
theorem k_fi118 {a b fu : Nat} (T : tS h m k e ps l r p rt lo hi) (ha : nd k e ps a) (hp : p a = some b) (hr : ¬ r b = some a) (hgp : ∀ c, p b = some c → l c = some b) : ∃ g, fJ29_fixAfterInsertion_p118 (fJ29_fixAfterInsertion_p5 (fu + 1)) m (some a) Γ h n = some (.inl (), g, 0, 0) ∧ tR h g m k e ps := by
  have i1 : (1 : Int32) = Int32.ofNat 1 := rfl
  have i0 : (0 : Int32) = Int32.ofNat 0 := rfl
  have hb := (T.2.1.up ha hp).1
  obtain ⟨T1, m1, c1⟩ := T.sc (x := some b) (v := Int32.ofNat 1) (vO.s hb) (Or.inr rfl)
  obtain ⟨T2, m2, c2⟩ := T1.sc (x := p b) (v := Int32.ofNat 0) (vO.up T1 (vO.s hb)) (Or.inl rfl)
  have s1 := k_sc (Γ := Γ) (n := n) (v := Int32.ofNat 1) T (vO.s hb) (Or.inr rfl)
  have s2 := k_sc (Γ := Γ) (n := n) (v := Int32.ofNat 0) T1 (vO.up T1 (vO.s hb)) (Or.inl rfl)
  have q0 := fun (hh : xH) (TT : tS hh m k e ps l r p rt lo hi) => k_pOf (Γ := Γ) (n := n) (x := some a) TT (vO.s ha)
  have q1 := fun (hh : xH) (TT : tS hh m k e ps l r p rt lo hi) => k_pOf (Γ := Γ) (n := n) (x := some b) TT (vO.s hb)
  have eb : (some a : Option Nat).bind p = some b := hp
  have ec : (some b : Option Nat).bind p = p b := rfl
  rw [eb] at q0
  rw [ec] at q1 s2
  have cb : yi (kSc (kSc h (some b) (Int32.ofNat 1)) (p b) (Int32.ofNat 0)) 36 5 b = Int32.ofNat 1 := by
    rw [c2 b hb, if_neg, c1 b hb, if_pos rfl]
    intro z
    have := T.2.1.up hb z
    omega
  unfold fJ29_fixAfterInsertion_p118
  rw [i1, i0, x_b1 (q0 _ T), x_b1 s1, x_b1 (q0 _ T1), x_b1 (q1 _ T1), x_b1 s2, x_b1 (q0 _ T2), x_b1 (q1 _ T2)]
  cases hc : p b with
  | none =>
    rw [hc] at T2 cb m2
    have e3 : xsel (some m) [(16, fun z => fJ29_rotateRight z none)] Γ (kSc (kSc h (some b) (Int32.ofNat 1)) none (Int32.ofNat 0)) n = some (.inl (), kSc (kSc h (some b) (Int32.ofNat 1)) none (Int32.ofNat 0), 0, 0) := by
      rw [e_sel (yO_of _ _ _ T2.1.1)]
      unfold fJ29_rotateRight
      rw [if_pos rfl]
      rfl
    rw [x_b1 e3]
    unfold fJ29_fixAfterInsertion_p148
    obtain ⟨g, e4, r4⟩ := k_fiStop (Γ := Γ) (n := n) (fu := fu) T2 ha (fun b' hb' => by rw [hp] at hb'; cases hb'; exact cb)
    exact ⟨g, e4, r4.1, (m1.trans m2).trans r4.2⟩
  | some c =>
    rw [hc] at T2 cb m2
    have hcn := (T.2.1.up hb hc).1
    have hlc := hgp c hc
    obtain ⟨g, l', r', p', rt', lo', hi', e3, T3, m3, k3, p3, -⟩ := T2.rotR (Γ := Γ) (n := n) hcn hlc
    rw [x_b1 ((e_sel (yO_of _ _ _ T2.1.1)).trans e3)]
    unfold fJ29_fixAfterInsertion_p148
    have w1 := T.2.1.up ha hp
    have w2 := T.2.1.up hb hc
    have ac : a ≠ c := by rintro rfl; omega
    have ab : a ≠ b := by rintro rfl; omega
    obtain ⟨g2, e4, r4⟩ := k_fiStop (Γ := Γ) (n := n) (fu := fu) T3 ha (fun b' hb' => by
      rw [p3, if_neg ac, if_neg ab, if_neg hr, hp] at hb'
      cases hb'
      rw [k3]
      exact cb)
    exact ⟨g2, e4, r4.1, ((m1.trans m2).trans m3).trans r4.2⟩
/-- the last steps: parent black, its parent red, and turned -/
theorem k_fi225 {a b fu : Nat} (T : tS h m k e ps l r p rt lo hi) (ha : nd k e ps a) (hp : p a = some b) (hr : ¬ l b = some a) (hgp : ∀ c, p b = some c → r c = some b) : ∃ g, fJ29_fixAfterInsertion_p225 (fJ29_fixAfterInsertion_p5 (fu + 1)) m (some a) Γ h n = some (.inl (), g, 0, 0) ∧ tR h g m k e ps := by
  have i1 : (1 : Int32) = Int32.ofNat 1 := rfl
  have i0 : (0 : Int32) = Int32.ofNat 0 := rfl
  have hb := (T.2.1.up ha hp).1
  obtain ⟨T1, m1, c1⟩ := T.sc (x := some b) (v := Int32.ofNat 1) (vO.s hb) (Or.inr rfl)
  obtain ⟨T2, m2, c2⟩ := T1.sc (x := p b) (v := Int32.ofNat 0) (vO.up T1 (vO.s hb)) (Or.inl rfl)
  have s1 := k_sc (Γ := Γ) (n := n) (v := Int32.ofNat 1) T (vO.s hb) (Or.inr rfl)
  have s2 := k_sc (Γ := Γ) (n := n) (v := Int32.ofNat 0) T1 (vO.up T1 (vO.s hb)) (Or.inl rfl)
  have q0 := fun (hh : xH) (TT : tS hh m k e ps l r p rt lo hi) => k_pOf (Γ := Γ) (n := n) (x := some a) TT (vO.s ha)
  have q1 := fun (hh : xH) (TT : tS hh m k e ps l r p rt lo hi) => k_pOf (Γ := Γ) (n := n) (x := some b) TT (vO.s hb)
  have eb : (some a : Option Nat).bind p = some b := hp
  have ec : (some b : Option Nat).bind p = p b := rfl
  rw [eb] at q0
  rw [ec] at q1 s2
  have cb : yi (kSc (kSc h (some b) (Int32.ofNat 1)) (p b) (Int32.ofNat 0)) 36 5 b = Int32.ofNat 1 := by
    rw [c2 b hb, if_neg, c1 b hb, if_pos rfl]
    intro z
    have := T.2.1.up hb z
    omega
  unfold fJ29_fixAfterInsertion_p225
  rw [i1, i0, x_b1 (q0 _ T), x_b1 s1, x_b1 (q0 _ T1), x_b1 (q1 _ T1), x_b1 s2, x_b1 (q0 _ T2), x_b1 (q1 _ T2)]
  cases hc : p b with
  | none =>
    rw [hc] at T2 cb m2
    have e3 : xsel (some m) [(16, fun z => fJ29_rotateLeft z none)] Γ (kSc (kSc h (some b) (Int32.ofNat 1)) none (Int32.ofNat 0)) n = some (.inl (), kSc (kSc h (some b) (Int32.ofNat 1)) none (Int32.ofNat 0), 0, 0) := by
      rw [e_sel (yO_of _ _ _ T2.1.1)]
      unfold fJ29_rotateLeft
      rw [if_pos rfl]
      rfl
    rw [x_b1 e3]
    unfold fJ29_fixAfterInsertion_p255
    obtain ⟨g, e4, r4⟩ := k_fiStop (Γ := Γ) (n := n) (fu := fu) T2 ha (fun b' hb' => by rw [hp] at hb'; cases hb'; exact cb)
    exact ⟨g, e4, r4.1, (m1.trans m2).trans r4.2⟩
  | some c =>
    rw [hc] at T2 cb m2
    have hcn := (T.2.1.up hb hc).1
    have hlc := hgp c hc
    obtain ⟨g, l', r', p', rt', lo', hi', e3, T3, m3, k3, p3, -⟩ := T2.rotL (Γ := Γ) (n := n) hcn hlc
    rw [x_b1 ((e_sel (yO_of _ _ _ T2.1.1)).trans e3)]
    unfold fJ29_fixAfterInsertion_p255
    have w1 := T.2.1.up ha hp
    have w2 := T.2.1.up hb hc
    have ac : a ≠ c := by rintro rfl; omega
    have ab : a ≠ b := by rintro rfl; omega
    obtain ⟨g2, e4, r4⟩ := k_fiStop (Γ := Γ) (n := n) (fu := fu) T3 ha (fun b' hb' => by
      rw [p3, if_neg ac, if_neg ab, if_neg hr, hp] at hb'
      cases hb'
      rw [k3]
      exact cb)
    exact ⟨g2, e4, r4.1, ((m1.trans m2).trans m3).trans r4.2⟩
end KN
