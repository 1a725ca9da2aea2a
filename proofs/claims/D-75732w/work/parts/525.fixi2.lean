/-! part 525: the tree: the repair behind an insertion, whole -/
section KFI
variable {Γ : Nat → Option Nat} {n m k : Nat} {e ps : Nat → Nat}
theorem tR.pre {h g f : xH} (a : kSame h g m k e ps) (b : tR g f m k e ps) : tR h f m k e ps := ⟨b.1, a.trans b.2⟩
theorem k_fi (hk : 0 < k) : ∀ (d fu : Nat) (h : xH) (l r p : oN) (rt : Option Nat) (lo hi : Nat → Nat) (x : Option Nat), tS h m k e ps l r p rt lo hi → vO k e ps x → (∀ a, x = some a → k - (hi a - lo a) ≤ d) → d + 3 < fu → ∃ g, fJ29_fixAfterInsertion_p5 fu m x Γ h n = some (.inl (), g, 0, 0) ∧ tR h g m k e ps := by
  have i1 : (1 : Int32) = Int32.ofNat 1 := rfl
  have i0 : (0 : Int32) = Int32.ofNat 0 := rfl
  intro d
  induction d with
  | zero =>
    intro fu h l r p rt lo hi x T hx hd hf
    obtain ⟨fu, rfl⟩ : ∃ g, fu = g + 1 := ⟨fu - 1, by omega⟩
    rcases x with _ | a
    · obtain ⟨g, e1, r1⟩ := k_fi258 (Γ := Γ) (n := n) T hk
      exact ⟨g, by rw [fJ29_fixAfterInsertion_p5, if_pos rfl]; exact e1, r1⟩
    · have ha := hx a rfl
      refine k_fiStop T ha (fun b hb => ?_)
      have h1 := T.2.1.up ha hb
      have h2 := T.2.1.2.1 b h1.1
      have h3 := hd a rfl
      omega
  | succ d ih =>
    intro fu h l r p rt lo hi x T hx hd hf
    obtain ⟨fu, rfl⟩ : ∃ g, fu = g + 1 := ⟨fu - 1, by omega⟩
    rcases x with _ | a
    · obtain ⟨g, e1, r1⟩ := k_fi258 (Γ := Γ) (n := n) T hk
      exact ⟨g, by rw [fJ29_fixAfterInsertion_p5, if_pos rfl]; exact e1, r1⟩
    have ha := hx a rfl
    have hda := hd a rfl
    by_cases stop : ∀ b, p a = some b → yi h 36 5 b = Int32.ofNat 1
    · exact k_fiStop T ha stop
    obtain ⟨b, hp, hcb⟩ : ∃ b, p a = some b ∧ ¬ yi h 36 5 b = Int32.ofNat 1 := by
      cases hpa : p a with
      | none => exact absurd (fun b hb => by rw [hpa] at hb; cases hb) stop
      | some b => exact ⟨b, rfl, fun z => stop (fun c hc => by rw [hpa] at hc; cases hc; exact z)⟩
    obtain ⟨hb, rb⟩ := T.2.1.up ha hp
    have hcb0 : yi h 36 5 b = Int32.ofNat 0 := by
      rcases T.2.2 b hb with c | c
      · exact c
      · exact absurd c hcb
    have bb := T.2.1.2.1 b hb
    have ba := T.2.1.2.1 a ha
    have nrt : ¬ some a = rt := by
      intro z
      have := (T.2.1.2.2.2.2.2.2.2.2.2 a z.symm).2.2.2
      rw [hp] at this
      cases this
    have gcol := e_gI (Γ := Γ) (n := n) (yO_of _ _ _ (T.1.2.2 b hb).1) kn36_5
    rw [hcb0] at gcol
    have gpa := T.1.gp (Γ := Γ) (n := n) ha
    rw [hp] at gpa
    have q0 := fun (hh : xH) (TT : tS hh m k e ps l r p rt lo hi) => k_pOf (Γ := Γ) (n := n) (x := some a) TT (vO.s ha)
    have q1 := fun (hh : xH) (TT : tS hh m k e ps l r p rt lo hi) => k_pOf (Γ := Γ) (n := n) (x := some b) TT (vO.s hb)
    have eb : (some a : Option Nat).bind p = some b := hp
    have ec : (some b : Option Nat).bind p = p b := rfl
    rw [eb] at q0
    rw [ec] at q1
    have vb : vO k e ps (p b) := vO.up T (vO.s hb)
    have vl : vO k e ps ((p b).bind l) := vO.lt T vb
    have vr : vO k e ps ((p b).bind r) := vO.rgt T vb
    rw [fJ29_fixAfterInsertion_p5, if_neg (fun z => nomatch z), x_b1 T.1.grt, if_neg nrt, x_b1 gpa, x_b1 gcol, if_pos (show Int32.ofNat 0 = 0 from rfl), x_b1 (q0 _ T), x_b1 (q0 _ T), x_b1 (q1 _ T), x_b1 (k_lOf T vb)]
    /- the colors of parent, uncle, grandparent -/
    have red : ∀ (y : Option Nat), vO k e ps y → (∃ c, p b = some c) → ∃ g, (xbind (fJ29_parentOf (some a)) fun v63 => xbind (fJ29_setColor v63 (1 : Int32)) fun _ => xbind (fJ29_setColor y (1 : Int32)) fun _ => xbind (fJ29_parentOf (some a)) fun v76 => xbind (fJ29_parentOf v76) fun v79 => xbind (fJ29_setColor v79 (0 : Int32)) fun _ => xbind (fJ29_parentOf (some a)) fun v87 => xbind (fJ29_parentOf v87) fun v90 => fJ29_fixAfterInsertion_p5 fu m v90) Γ h n = some (.inl (), g, 0, 0) ∧ tR h g m k e ps := by
      rintro y hy ⟨c, hc⟩
      obtain ⟨hcn, rc⟩ := T.2.1.up hb hc
      obtain ⟨T1, m1, -⟩ := T.sc (x := some b) (v := Int32.ofNat 1) (vO.s hb) (Or.inr rfl)
      obtain ⟨T2, m2, -⟩ := T1.sc (x := y) (v := Int32.ofNat 1) hy (Or.inr rfl)
      obtain ⟨T3, m3, -⟩ := T2.sc (x := p b) (v := Int32.ofNat 0) vb (Or.inl rfl)
      have s1 := k_sc (Γ := Γ) (n := n) (v := Int32.ofNat 1) T (vO.s hb) (Or.inr rfl)
      have s2 := k_sc (Γ := Γ) (n := n) (v := Int32.ofNat 1) T1 hy (Or.inr rfl)
      have s3 := k_sc (Γ := Γ) (n := n) (v := Int32.ofNat 0) T2 vb (Or.inl rfl)
      obtain ⟨g, e4, r4⟩ := ih fu _ l r p rt lo hi (p b) T3 vb (fun c' hc' => by rw [hc] at hc'; cases hc'; omega) (by omega)
      refine ⟨g, ?_, ((m1.trans m2).trans m3 |> fun z => r4.pre z)⟩
      rw [i1, i0, x_b1 (q0 _ T), x_b1 s1, x_b1 s2, x_b1 (q0 _ T2), x_b1 (q1 _ T2), x_b1 s3, x_b1 (q0 _ T3), x_b1 (q1 _ T3)]
      exact e4
    have hfu : ∃ f', fu = f' + 1 := ⟨fu - 1, by omega⟩
    obtain ⟨f', rfl⟩ := hfu
    by_cases side : some b = (p b).bind l
    · /- the parent is a left child -/
      rw [if_pos side, x_b1 (q0 _ T), x_b1 (q1 _ T), x_b1 (k_rOf T vb), x_b1 (k_cOf T vr)]
      obtain ⟨c, hc, hlc⟩ : ∃ c, p b = some c ∧ l c = some b := by
        cases hpb : p b with
        | none => rw [hpb] at side; cases side
        | some c => rw [hpb] at side; exact ⟨c, rfl, side.symm⟩
      obtain ⟨hcn, rc⟩ := T.2.1.up hb hc
      have lcb := T.2.1.2.2.2.1 c b hcn hlc
      by_cases cy : kCl h ((p b).bind r) = 0
      · rw [if_pos cy]
        exact red _ vr ⟨c, hc⟩
      · rw [if_neg cy, x_b1 (q0 _ T), x_b1 (k_rOf T (vO.s hb))]
        have er : (some b : Option Nat).bind r = r b := rfl
        rw [er]
        by_cases inner : some a = r b
        · rw [if_pos inner, x_b1 (q0 _ T)]
          have rba := T.2.1.2.2.2.2.2.1 b a hb inner.symm
          obtain ⟨g, l', r', p', rt', lo', hi', e3, T3, m3, k3, p3, -⟩ := T.rotL (Γ := Γ) (n := n) hb inner.symm
          have ab : a ≠ b := by rintro rfl; omega
          have pb' : p' b = some a := by rw [p3, if_pos rfl]
          have pa' : p' a = some c := by rw [p3, if_neg ab, if_pos rfl]; exact hc
          rw [x_b1 ((e_sel (yO_of _ _ _ T.1.1)).trans e3)]
          obtain ⟨g2, e4, r4⟩ := k_fi118 (Γ := Γ) (n := n) (fu := f') T3 hb pb' (fun z => by
            have z1 := T3.2.1.2.2.2.2.2.1 a b ha z
            have z2 := T3.2.1.2.1 b hb
            omega) (fun c' hc' => by
            rw [pa'] at hc'
            cases hc'
            rcases (T3.2.1.2.2.2.2.2.2.2.1 a c ha pa').2 with z | z
            · exact z
            · have z1 := T3.2.1.2.2.2.2.2.1 c a hcn z
              have z2 := T3.2.1.2.1 a ha
              omega)
          exact ⟨g2, e4, r4.pre m3⟩
        · rw [if_neg inner]
          exact k_fi118 T ha hp (fun z => inner z.symm) (fun c' hc' => by rw [hc] at hc'; cases hc'; exact hlc)
    · /- the parent is a right child, or the root -/
      rw [if_neg side, x_b1 (q0 _ T), x_b1 (q1 _ T), x_b1 (k_lOf T vb), x_b1 (k_cOf T vl)]
      have hrc : ∀ c, p b = some c → nd k e ps c ∧ r c = some b := by
        intro c hc
        obtain ⟨h1, h2⟩ := T.2.1.2.2.2.2.2.2.2.1 b c hb hc
        rcases h2 with h2 | h2
        · rw [hc] at side
          exact absurd h2.symm side
        · exact ⟨h1, h2⟩
      by_cases cy : kCl h ((p b).bind l) = 0
      · rw [if_pos cy]
        refine red _ vl ?_
        cases hpb : p b with
        | none =>
          rw [hpb] at cy
          exact absurd (show Int32.ofNat 1 = Int32.ofNat 0 from cy) (by decide)
        | some c => exact ⟨c, rfl⟩
      · rw [if_neg cy, x_b1 (q0 _ T), x_b1 (k_lOf T (vO.s hb))]
        have er : (some b : Option Nat).bind l = l b := rfl
        rw [er]
        by_cases inner : some a = l b
        · rw [if_pos inner, x_b1 (q0 _ T)]
          have rba := T.2.1.2.2.2.1 b a hb inner.symm
          obtain ⟨g, l', r', p', rt', lo', hi', e3, T3, m3, k3, p3, -⟩ := T.rotR (Γ := Γ) (n := n) hb inner.symm
          have ab : a ≠ b := by rintro rfl; omega
          have pb' : p' b = some a := by rw [p3, if_pos rfl]
          have pa' : p' a = p b := by rw [p3, if_neg ab, if_pos rfl]
          rw [x_b1 ((e_sel (yO_of _ _ _ T.1.1)).trans e3)]
          obtain ⟨g2, e4, r4⟩ := k_fi225 (Γ := Γ) (n := n) (fu := f') T3 hb pb' (fun z => by
            have z1 := T3.2.1.2.2.2.1 a b ha z
            have z2 := T3.2.1.2.1 b hb
            omega) (fun c' hc' => by
            have hc0 := hc'
            rw [pa'] at hc'
            obtain ⟨hcn, hrc'⟩ := hrc c' hc'
            have w1 := T.2.1.2.2.2.2.2.1 c' b hcn hrc'
            rcases (T3.2.1.2.2.2.2.2.2.2.1 a c' ha hc0).2 with z | z
            · have z1 := T3.2.1.2.2.2.1 c' a hcn z
              have z2 := T3.2.1.2.1 a ha
              omega
            · exact z)
          exact ⟨g2, e4, r4.pre m3⟩
        · rw [if_neg inner]
          exact k_fi225 T ha hp (fun z => inner z.symm) (fun c' hc' => (hrc c' hc').2)
theorem k_fixIns {h : xH} {l r p : oN} {rt : Option Nat} {lo hi : Nat → Nat} {a : Nat} (hk : k ≤ 20000) (T : tS h m k e ps l r p rt lo hi) (ha : nd k e ps a) : ∃ g, fJ29_fixAfterInsertion m (some a) Γ h n = some (.inl (), g, 0, 0) ∧ tR h g m k e ps := by
  have i0 : (0 : Int32) = Int32.ofNat 0 := rfl
  obtain ⟨T1, m1, -⟩ := T.sc (x := some a) (v := Int32.ofNat 0) (vO.s ha) (Or.inl rfl)
  obtain ⟨g, e1, r1⟩ := k_fi (Γ := Γ) (n := n) (show 0 < k by have := ha.1; omega) k xFU _ l r p rt lo hi (some a) T1 (vO.s ha) (fun a' ha' => by omega) (by unfold xFU; omega)
  refine ⟨g, ?_, r1.pre m1⟩
  unfold fJ29_fixAfterInsertion
  rw [i0, x_b1 (e_pN (T.1.2.2 a ha).1 kn36_5 nb0)]
  exact e1
end KFI
