/-! part 523: rotations in the heap -/
theorem ysv_out {h : xH} {ci k a : Nat} {v : Value} {q : Nat} (hq : q ≠ a) : ysv h ci k a v q = h q := by
  unfold ysv
  rcases ha : h a with _ | ⟨w, x | ⟨c, fs⟩⟩
  · rfl
  · cases w <;> rfl
  · cases w
    · rfl
    · dsimp only
      split
      · exact up_ne hq
      · rfl
section KSM
variable {h g f : xH} {m k : Nat} {e ps : Nat → Nat}
theorem kSame.refl : kSame h h m k e ps := ⟨fun _ => rfl, fun _ _ _ => rfl, fun _ => ⟨rfl, rfl⟩, fun _ _ => ⟨rfl, rfl⟩⟩
theorem kSame.trans (a : kSame h g m k e ps) (b : kSame g f m k e ps) : kSame h f m k e ps := ⟨fun x => (b.1 x).trans (a.1 x), fun x h1 h2 => (b.2.1 x h1 h2).trans (a.2.1 x h1 h2), fun x => ⟨((b.2.2.1 x).1).trans (a.2.2.1 x).1, ((b.2.2.1 x).2).trans (a.2.2.1 x).2⟩, fun j hj => ⟨((b.2.2.2 j hj).1).trans (a.2.2.2 j hj).1, ((b.2.2.2 j hj).2).trans (a.2.2.2 j hj).2⟩⟩
theorem kSame.ptr {a j : Nat} {v : Option Nat} (ha : nd k e ps a) (W : yW h 36 a) (hk : (ykn 36)[j]? = some 3) (hj : j = 2 ∨ j = 3 ∨ j = 4) : kSame h (ysr h 36 j a v) m k e ps := by
  refine ⟨fun x => yhd_sv _ _ _ _ _ _, fun x _ h2 => ysv_out (fun z => h2 (z ▸ ha)), fun x => ⟨?_, ?_⟩, fun i hi => ⟨?_, ?_⟩⟩
  · rw [yr_sr W hk, if_neg (by omega)]
  · rw [yr_sr W hk, if_neg (by omega)]
  · rw [yr_sr W hk, if_neg (by omega)]
  · exact yi_sr W hk _ _ _ (by omega)
theorem kSame.root {v : Option Nat} (W : yW h 16 m) : kSame h (ysr h 16 3 m v) m k e ps := by
  refine ⟨fun x => yhd_sv _ _ _ _ _ _, fun x h1 _ => ysv_out h1, fun x => ⟨?_, ?_⟩, fun i hi => ⟨?_, ?_⟩⟩
  · rw [yr_sr W kn16_3, if_neg (by omega)]
  · rw [yr_sr W kn16_3, if_neg (by omega)]
  · rw [yr_sr W kn16_3, if_neg (by omega)]
  · exact yi_sr W kn16_3 _ _ _ (by omega)
theorem kSame.col {a : Nat} {v : Int32} (ha : nd k e ps a) (W : yW h 36 a) : kSame h (ysi h 36 5 a v) m k e ps := by
  refine ⟨fun x => yhd_sv _ _ _ _ _ _, fun x _ h2 => ysv_out (fun z => h2 (z ▸ ha)), fun x => ⟨?_, ?_⟩, fun i hi => ⟨?_, ?_⟩⟩
  · exact yr_si W kn36_5 _ _ _ (by omega)
  · exact yr_si W kn36_5 _ _ _ (by omega)
  · exact yr_si W kn36_5 _ _ _ (by omega)
  · rw [yi_si W kn36_5, if_neg (by omega)]
/-- colors are as they were -/
def kCol (h g : xH) : Prop := ∀ a, yi g 36 5 a = yi h 36 5 a
theorem kCol.ptr {a j : Nat} {v : Option Nat} (W : yW h 36 a) (hk : (ykn 36)[j]? = some 3) (hj : j = 2 ∨ j = 3 ∨ j = 4) : kCol h (ysr h 36 j a v) := fun x => yi_sr W hk _ _ _ (by omega)
theorem kCol.root {v : Option Nat} (W : yW h 16 m) : kCol h (ysr h 16 3 m v) := fun x => yi_sr W kn16_3 _ _ _ (by omega)
theorem kCol.trans (a : kCol h g) (b : kCol g f) : kCol h f := fun x => (b x).trans (a x)
end KSM
section KRT
variable {Γ : Nat → Option Nat} {h : xH} {n m k : Nat} {e ps : Nat → Nat} {l r p : oN} {rt : Option Nat} {lo hi : Nat → Nat}
theorem k_rotL {a b : Nat} (T : pT k e ps l r p rt lo hi) (H : kE h m k e ps l r p rt) (ha : nd k e ps a) (hr : r a = some b) : ∃ g l' r' p' rt' lo' hi', fJ29_rotateLeft m (some a) Γ h n = some (.inl (), g, 0, 0) ∧ kE g m k e ps l' r' p' rt' ∧ pT k e ps l' r' p' rt' lo' hi' ∧ kSame h g m k e ps ∧ kCol h g ∧ (∀ x, p' x = if x = a then some b else if x = b then p a else if l b = some x then some a else p x) ∧ rt' = (if p a = none then some b else rt) := by
  have hb := (T.2.2.2.2.2.1 a b ha hr).1
  have ab : a ≠ b := by
    rintro rfl
    have := T.2.1 a ha
    have := T.2.2.2.2.2.1 a a ha hr
    omega
  have lc : ∀ c, l b = some c → nd k e ps c ∧ c ≠ a ∧ c ≠ b := by
    intro c hc
    obtain ⟨c1, c2, c3, c4⟩ := T.2.2.2.1 b c hb hc
    have h1 := T.2.1 c c1
    have h2 := T.2.2.2.2.2.1 a b ha hr
    have h3 := T.2.1 b hb
    exact ⟨c1, by rintro rfl; omega, by rintro rfl; omega⟩
  have qa : ∀ q, p a = some q → nd k e ps q ∧ q ≠ a ∧ q ≠ b := by
    intro q hq
    obtain ⟨q1, q2⟩ := T.2.2.2.2.2.2.2.1 a q ha hq
    have b1 := T.2.1 q q1
    have h2 := T.2.2.2.2.2.1 a b ha hr
    have h3 := T.2.1 b hb
    have h4 := T.2.1 a ha
    rcases q2 with q2 | q2
    · obtain ⟨-, d1, d2, -⟩ := T.2.2.2.1 q a q1 q2
      exact ⟨q1, by rintro rfl; omega, by rintro rfl; omega⟩
    · obtain ⟨-, d1, d2, -⟩ := T.2.2.2.2.2.1 q a q1 q2
      exact ⟨q1, by rintro rfl; omega, by rintro rfl; omega⟩
  have sm : ∀ {hh : xH} {j x : Nat} {v : Option Nat}, nd k e ps x → yW hh 36 x → (ykn 36)[j]? = some 3 → (j = 2 ∨ j = 3 ∨ j = 4) → kSame hh (ysr hh 36 j x v) m k e ps ∧ kCol hh (ysr hh 36 j x v) := fun h1 h2 h3 h4 => ⟨kSame.ptr h1 h2 h3 h4, kCol.ptr h2 h3 h4⟩
  /- the child of b moves over to a -/
  obtain ⟨s1, H1⟩ := H.sr (Γ := Γ) (n := n) (v := l b) ha
  have m1 := sm (v := l b) ha (H.2.2 a ha).1 kn36_3 (by omega)
  have part : ∃ h2 p2, (∀ (K : xM Unit), (if l b = none then K else xbind (xgR 36 2 (some b)) fun v25 => xbind (xput 36 4 v25 (va_rf (some a))) fun _ => K) Γ (ysr h 36 3 a (l b)) n = K Γ h2 n) ∧ kE h2 m k e ps l (va_up r a (l b)) p2 rt ∧ (∀ x, p2 x = if l b = some x then some a else p x) ∧ kSame h h2 m k e ps ∧ kCol h h2 := by
    cases hc : l b with
    | none =>
      rw [hc] at H1 m1
      exact ⟨_, p, fun K => by rw [if_pos rfl], H1, fun x => by rw [if_neg (fun z => nomatch z)], m1⟩
    | some c =>
      rw [hc] at H1 m1
      obtain ⟨c1, c2, c3⟩ := lc c hc
      obtain ⟨s2, H2⟩ := H1.sp (Γ := Γ) (n := n) (v := some a) c1
      have m2 := sm (v := some a) c1 (H1.2.2 c c1).1 kn36_4 (by omega)
      refine ⟨_, _, fun K => ?_, H2, fun x => ?_, m1.1.trans m2.1, m1.2.trans m2.2⟩
      · have g1 := H1.gl (Γ := Γ) (n := n) hb
        rw [hc] at g1
        rw [if_neg (fun z => nomatch z), x_b1 g1, x_b1 s2]
      · rw [va_ap]
        by_cases cx : x = c
        · rw [if_pos cx, if_pos (by rw [cx])]
        · rw [if_neg cx, if_neg (fun z => cx (Option.some.inj z).symm)]
  obtain ⟨h2, p2, part, H2, hp2, m2⟩ := part
  have pa2 : p2 a = p a := by rw [hp2, if_neg (fun z => (lc a z).2.1 rfl)]
  obtain ⟨s3, H3⟩ := H2.sp (Γ := Γ) (n := n) (v := p a) hb
  have m3 := sm (v := p a) hb (H2.2.2 b hb).1 kn36_4 (by omega)
  have pa3 : va_up p2 b (p a) a = p a := by rw [va_up_ne _ _ ab, pa2]
  /- b takes the place of a -/
  have place : ∃ h4 l4 r4 rt4, (∀ (K : xM Unit), (if p a = none then xbind (xput 16 3 (some m) (va_rf (some b))) fun _ => K else xbind (xgR 36 4 (some a)) fun v56 => xbind (xgR 36 2 v56) fun v59 => if v59 = some a then (xbind (xgR 36 4 (some a)) fun v67 => xbind (xput 36 2 v67 (va_rf (some b))) fun _ => K) else (xbind (xgR 36 4 (some a)) fun v78 => xbind (xput 36 3 v78 (va_rf (some b))) fun _ => K)) Γ (ysr h2 36 4 b (p a)) n = K Γ h4 n) ∧ kE h4 m k e ps l4 r4 (va_up p2 b (p a)) rt4 ∧ (∀ x, l4 x = if p a = some x ∧ l x = some a then some b else l x) ∧ (∀ x, r4 x = if x = a then l b else if p a = some x ∧ ¬ l x = some a then some b else r x) ∧ rt4 = (if p a = none then some b else rt) ∧ kSame h h4 m k e ps ∧ kCol h h4 := by
    cases hq : p a with
    | none =>
      rw [hq] at H3 m3
      obtain ⟨s4, H4⟩ := H3.srt (Γ := Γ) (n := n) (v := some b)
      refine ⟨_, _, _, _, fun K => ?_, H4, fun x => ?_, fun x => ?_, ?_, (m2.1.trans m3.1).trans (kSame.root H3.1), (m2.2.trans m3.2).trans (kCol.root H3.1)⟩
      · rw [if_pos rfl, x_b1 s4]
      · rw [if_neg (fun z => nomatch z.1)]
      · rw [va_ap]
        by_cases cx : x = a
        · rw [if_pos cx, if_pos cx]
        · rw [if_neg cx, if_neg cx, if_neg (fun z => nomatch z.1)]
      · rw [if_pos rfl]
    | some q =>
      obtain ⟨q1, q2, q3⟩ := qa q hq
      rw [hq] at H3 m3 pa3
      have g4 := H3.gp (Γ := Γ) (n := n) ha
      rw [pa3] at g4
      have g5 := H3.gl (Γ := Γ) (n := n) q1
      by_cases c1 : l q = some a
      · obtain ⟨s4, H4⟩ := H3.sl (Γ := Γ) (n := n) (v := some b) q1
        refine ⟨_, _, _, _, fun K => ?_, H4, fun x => ?_, fun x => ?_, ?_, (m2.1.trans m3.1).trans (sm q1 (H3.2.2 q q1).1 kn36_2 (by omega)).1, (m2.2.trans m3.2).trans (sm q1 (H3.2.2 q q1).1 kn36_2 (by omega)).2⟩
        · rw [if_neg (fun z => nomatch z), x_b1 g4, x_b1 g5, if_pos c1, x_b1 g4, x_b1 s4]
        · rw [va_ap]
          by_cases cx : x = q
          · rw [if_pos cx, if_pos ⟨by rw [cx], by rw [cx]; exact c1⟩]
          · rw [if_neg cx, if_neg (fun z => cx (Option.some.inj z.1).symm)]
        · rw [va_ap]
          by_cases cx : x = a
          · rw [if_pos cx, if_pos cx]
          · rw [if_neg cx, if_neg cx, if_neg]
            rintro ⟨z1, z2⟩
            cases z1
            exact z2 c1
        · rw [if_neg (fun z => nomatch z)]
      · obtain ⟨s4, H4⟩ := H3.sr (Γ := Γ) (n := n) (v := some b) q1
        refine ⟨_, _, _, _, fun K => ?_, H4, fun x => ?_, fun x => ?_, ?_, (m2.1.trans m3.1).trans (sm q1 (H3.2.2 q q1).1 kn36_3 (by omega)).1, (m2.2.trans m3.2).trans (sm q1 (H3.2.2 q q1).1 kn36_3 (by omega)).2⟩
        · rw [if_neg (fun z => nomatch z), x_b1 g4, x_b1 g5, if_neg c1, x_b1 g4, x_b1 s4]
        · rw [if_neg]
          rintro ⟨z1, z2⟩
          cases z1
          exact c1 z2
        · rw [va_ap, va_ap]
          by_cases cx : x = q
          · subst cx
            rw [if_pos rfl, if_neg q2, if_pos ⟨rfl, c1⟩]
          · rw [if_neg cx]
            by_cases ca : x = a
            · rw [if_pos ca, if_pos ca]
            · rw [if_neg ca, if_neg ca, if_neg (fun z => cx (Option.some.inj z.1).symm)]
        · rw [if_neg (fun z => nomatch z)]
  obtain ⟨h4, l4, r4, rt4, place, H4, hl4, hr4, hrt, m4⟩ := place
  obtain ⟨s5, H5⟩ := H4.sl (Γ := Γ) (n := n) (v := some a) hb
  have m5 := sm (v := some a) hb (H4.2.2 b hb).1 kn36_2 (by omega)
  obtain ⟨s6, H6⟩ := H5.sp (Γ := Γ) (n := n) (v := some b) ha
  have m6 := sm (v := some b) ha (H5.2.2 a ha).1 kn36_4 (by omega)
  have hp6 : ∀ x, va_up (va_up p2 b (p a)) a (some b) x = if x = a then some b else if x = b then p a else if l b = some x then some a else p x := by
    intro x
    rw [va_ap, va_ap, hp2]
  have hl6 : ∀ x, va_up l4 b (some a) x = if x = b then some a else if p a = some x ∧ l x = some a then some b else l x := by
    intro x
    rw [va_ap, hl4]
  refine ⟨_, _, _, _, _, _, _, ?_, H6, T.rotL ha hr hl6 hr4 hp6 hrt, (m4.1.trans m5.1).trans m6.1, (m4.2.trans m5.2).trans m6.2, hp6, hrt⟩
  have g1 := H.gr (Γ := Γ) (n := n) ha
  rw [hr] at g1
  have g2 := H.gl (Γ := Γ) (n := n) hb
  have g3 := H1.gl (Γ := Γ) (n := n) hb
  have g4 := H2.gp (Γ := Γ) (n := n) ha
  rw [pa2] at g4
  have g5 := H3.gp (Γ := Γ) (n := n) ha
  rw [pa3] at g5
  have fin : ∀ (K : xM Unit), K = fJ29_rotateLeft_p85 (some a) (some b) → K Γ h4 n = some (.inl (), ysr (ysr h4 36 2 b (some a)) 36 4 a (some b), 0, 0) := by
    rintro K rfl
    unfold fJ29_rotateLeft_p85
    rw [x_b1 s5, x_b1 s6]
    rfl
  have p32 : fJ29_rotateLeft_p32 m (some a) (some b) Γ h2 n = some (.inl (), ysr (ysr h4 36 2 b (some a)) 36 4 a (some b), 0, 0) := by
    unfold fJ29_rotateLeft_p32
    rw [x_b1 g4, x_b1 s3, x_b1 g5, place (fJ29_rotateLeft_p85 (some a) (some b))]
    exact fin _ rfl
  unfold fJ29_rotateLeft
  rw [if_neg (fun z => nomatch z), x_b1 g1, x_b1 g2, x_b1 s1, x_b1 g3, part (fJ29_rotateLeft_p32 m (some a) (some b))]
  exact p32
theorem k_rotR {a b : Nat} (T : pT k e ps l r p rt lo hi) (H : kE h m k e ps l r p rt) (ha : nd k e ps a) (hr : l a = some b) : ∃ g l' r' p' rt' lo' hi', fJ29_rotateRight m (some a) Γ h n = some (.inl (), g, 0, 0) ∧ kE g m k e ps l' r' p' rt' ∧ pT k e ps l' r' p' rt' lo' hi' ∧ kSame h g m k e ps ∧ kCol h g ∧ (∀ x, p' x = if x = a then some b else if x = b then p a else if r b = some x then some a else p x) ∧ rt' = (if p a = none then some b else rt) := by
  have hb := (T.2.2.2.1 a b ha hr).1
  have ab : a ≠ b := by
    rintro rfl
    have := T.2.1 a ha
    have := T.2.2.2.1 a a ha hr
    omega
  have lc : ∀ c, r b = some c → nd k e ps c ∧ c ≠ a ∧ c ≠ b := by
    intro c hc
    obtain ⟨c1, c2, c3, c4⟩ := T.2.2.2.2.2.1 b c hb hc
    have h1 := T.2.1 c c1
    have h2 := T.2.2.2.1 a b ha hr
    have h3 := T.2.1 b hb
    exact ⟨c1, by rintro rfl; omega, by rintro rfl; omega⟩
  have qa : ∀ q, p a = some q → nd k e ps q ∧ q ≠ a ∧ q ≠ b := by
    intro q hq
    obtain ⟨q1, q2⟩ := T.2.2.2.2.2.2.2.1 a q ha hq
    have b1 := T.2.1 q q1
    have h2 := T.2.2.2.1 a b ha hr
    have h3 := T.2.1 b hb
    have h4 := T.2.1 a ha
    rcases q2 with q2 | q2
    · obtain ⟨-, d1, d2, -⟩ := T.2.2.2.1 q a q1 q2
      exact ⟨q1, by rintro rfl; omega, by rintro rfl; omega⟩
    · obtain ⟨-, d1, d2, -⟩ := T.2.2.2.2.2.1 q a q1 q2
      exact ⟨q1, by rintro rfl; omega, by rintro rfl; omega⟩
  have sm : ∀ {hh : xH} {j x : Nat} {v : Option Nat}, nd k e ps x → yW hh 36 x → (ykn 36)[j]? = some 3 → (j = 2 ∨ j = 3 ∨ j = 4) → kSame hh (ysr hh 36 j x v) m k e ps ∧ kCol hh (ysr hh 36 j x v) := fun h1 h2 h3 h4 => ⟨kSame.ptr h1 h2 h3 h4, kCol.ptr h2 h3 h4⟩
  /- the child of b moves over to a -/
  obtain ⟨s1, H1⟩ := H.sl (Γ := Γ) (n := n) (v := r b) ha
  have m1 := sm (v := r b) ha (H.2.2 a ha).1 kn36_2 (by omega)
  have part : ∃ h2 p2, (∀ (K : xM Unit), (if r b = none then K else xbind (xgR 36 3 (some b)) fun v25 => xbind (xput 36 4 v25 (va_rf (some a))) fun _ => K) Γ (ysr h 36 2 a (r b)) n = K Γ h2 n) ∧ kE h2 m k e ps (va_up l a (r b)) r p2 rt ∧ (∀ x, p2 x = if r b = some x then some a else p x) ∧ kSame h h2 m k e ps ∧ kCol h h2 := by
    cases hc : r b with
    | none =>
      rw [hc] at H1 m1
      exact ⟨_, p, fun K => by rw [if_pos rfl], H1, fun x => by rw [if_neg (fun z => nomatch z)], m1⟩
    | some c =>
      rw [hc] at H1 m1
      obtain ⟨c1, c2, c3⟩ := lc c hc
      obtain ⟨s2, H2⟩ := H1.sp (Γ := Γ) (n := n) (v := some a) c1
      have m2 := sm (v := some a) c1 (H1.2.2 c c1).1 kn36_4 (by omega)
      refine ⟨_, _, fun K => ?_, H2, fun x => ?_, m1.1.trans m2.1, m1.2.trans m2.2⟩
      · have g1 := H1.gr (Γ := Γ) (n := n) hb
        rw [hc] at g1
        rw [if_neg (fun z => nomatch z), x_b1 g1, x_b1 s2]
      · rw [va_ap]
        by_cases cx : x = c
        · rw [if_pos cx, if_pos (by rw [cx])]
        · rw [if_neg cx, if_neg (fun z => cx (Option.some.inj z).symm)]
  obtain ⟨h2, p2, part, H2, hp2, m2⟩ := part
  have pa2 : p2 a = p a := by rw [hp2, if_neg (fun z => (lc a z).2.1 rfl)]
  obtain ⟨s3, H3⟩ := H2.sp (Γ := Γ) (n := n) (v := p a) hb
  have m3 := sm (v := p a) hb (H2.2.2 b hb).1 kn36_4 (by omega)
  have pa3 : va_up p2 b (p a) a = p a := by rw [va_up_ne _ _ ab, pa2]
  /- b takes the place of a -/
  have place : ∃ h4 l4 r4 rt4, (∀ (K : xM Unit), (if p a = none then xbind (xput 16 3 (some m) (va_rf (some b))) fun _ => K else xbind (xgR 36 4 (some a)) fun v56 => xbind (xgR 36 3 v56) fun v59 => if v59 = some a then (xbind (xgR 36 4 (some a)) fun v67 => xbind (xput 36 3 v67 (va_rf (some b))) fun _ => K) else (xbind (xgR 36 4 (some a)) fun v78 => xbind (xput 36 2 v78 (va_rf (some b))) fun _ => K)) Γ (ysr h2 36 4 b (p a)) n = K Γ h4 n) ∧ kE h4 m k e ps l4 r4 (va_up p2 b (p a)) rt4 ∧ (∀ x, r4 x = if p a = some x ∧ r x = some a then some b else r x) ∧ (∀ x, l4 x = if x = a then r b else if p a = some x ∧ ¬ r x = some a then some b else l x) ∧ rt4 = (if p a = none then some b else rt) ∧ kSame h h4 m k e ps ∧ kCol h h4 := by
    cases hq : p a with
    | none =>
      rw [hq] at H3 m3
      obtain ⟨s4, H4⟩ := H3.srt (Γ := Γ) (n := n) (v := some b)
      refine ⟨_, _, _, _, fun K => ?_, H4, fun x => ?_, fun x => ?_, ?_, (m2.1.trans m3.1).trans (kSame.root H3.1), (m2.2.trans m3.2).trans (kCol.root H3.1)⟩
      · rw [if_pos rfl, x_b1 s4]
      · rw [if_neg (fun z => nomatch z.1)]
      · rw [va_ap]
        by_cases cx : x = a
        · rw [if_pos cx, if_pos cx]
        · rw [if_neg cx, if_neg cx, if_neg (fun z => nomatch z.1)]
      · rw [if_pos rfl]
    | some q =>
      obtain ⟨q1, q2, q3⟩ := qa q hq
      rw [hq] at H3 m3 pa3
      have g4 := H3.gp (Γ := Γ) (n := n) ha
      rw [pa3] at g4
      have g5 := H3.gr (Γ := Γ) (n := n) q1
      by_cases c1 : r q = some a
      · obtain ⟨s4, H4⟩ := H3.sr (Γ := Γ) (n := n) (v := some b) q1
        refine ⟨_, _, _, _, fun K => ?_, H4, fun x => ?_, fun x => ?_, ?_, (m2.1.trans m3.1).trans (sm q1 (H3.2.2 q q1).1 kn36_3 (by omega)).1, (m2.2.trans m3.2).trans (sm q1 (H3.2.2 q q1).1 kn36_3 (by omega)).2⟩
        · rw [if_neg (fun z => nomatch z), x_b1 g4, x_b1 g5, if_pos c1, x_b1 g4, x_b1 s4]
        · rw [va_ap]
          by_cases cx : x = q
          · rw [if_pos cx, if_pos ⟨by rw [cx], by rw [cx]; exact c1⟩]
          · rw [if_neg cx, if_neg (fun z => cx (Option.some.inj z.1).symm)]
        · rw [va_ap]
          by_cases cx : x = a
          · rw [if_pos cx, if_pos cx]
          · rw [if_neg cx, if_neg cx, if_neg]
            rintro ⟨z1, z2⟩
            cases z1
            exact z2 c1
        · rw [if_neg (fun z => nomatch z)]
      · obtain ⟨s4, H4⟩ := H3.sl (Γ := Γ) (n := n) (v := some b) q1
        refine ⟨_, _, _, _, fun K => ?_, H4, fun x => ?_, fun x => ?_, ?_, (m2.1.trans m3.1).trans (sm q1 (H3.2.2 q q1).1 kn36_2 (by omega)).1, (m2.2.trans m3.2).trans (sm q1 (H3.2.2 q q1).1 kn36_2 (by omega)).2⟩
        · rw [if_neg (fun z => nomatch z), x_b1 g4, x_b1 g5, if_neg c1, x_b1 g4, x_b1 s4]
        · rw [if_neg]
          rintro ⟨z1, z2⟩
          cases z1
          exact c1 z2
        · rw [va_ap, va_ap]
          by_cases cx : x = q
          · subst cx
            rw [if_pos rfl, if_neg q2, if_pos ⟨rfl, c1⟩]
          · rw [if_neg cx]
            by_cases ca : x = a
            · rw [if_pos ca, if_pos ca]
            · rw [if_neg ca, if_neg ca, if_neg (fun z => cx (Option.some.inj z.1).symm)]
        · rw [if_neg (fun z => nomatch z)]
  obtain ⟨h4, l4, r4, rt4, place, H4, hl4, hr4, hrt, m4⟩ := place
  obtain ⟨s5, H5⟩ := H4.sr (Γ := Γ) (n := n) (v := some a) hb
  have m5 := sm (v := some a) hb (H4.2.2 b hb).1 kn36_3 (by omega)
  obtain ⟨s6, H6⟩ := H5.sp (Γ := Γ) (n := n) (v := some b) ha
  have m6 := sm (v := some b) ha (H5.2.2 a ha).1 kn36_4 (by omega)
  have hp6 : ∀ x, va_up (va_up p2 b (p a)) a (some b) x = if x = a then some b else if x = b then p a else if r b = some x then some a else p x := by
    intro x
    rw [va_ap, va_ap, hp2]
  have hl6 : ∀ x, va_up r4 b (some a) x = if x = b then some a else if p a = some x ∧ r x = some a then some b else r x := by
    intro x
    rw [va_ap, hl4]
  refine ⟨_, _, _, _, _, _, _, ?_, H6, T.rotR ha hr hl6 hr4 hp6 hrt, (m4.1.trans m5.1).trans m6.1, (m4.2.trans m5.2).trans m6.2, hp6, hrt⟩
  have g1 := H.gl (Γ := Γ) (n := n) ha
  rw [hr] at g1
  have g2 := H.gr (Γ := Γ) (n := n) hb
  have g3 := H1.gr (Γ := Γ) (n := n) hb
  have g4 := H2.gp (Γ := Γ) (n := n) ha
  rw [pa2] at g4
  have g5 := H3.gp (Γ := Γ) (n := n) ha
  rw [pa3] at g5
  have fin : ∀ (K : xM Unit), K = fJ29_rotateRight_p85 (some a) (some b) → K Γ h4 n = some (.inl (), ysr (ysr h4 36 3 b (some a)) 36 4 a (some b), 0, 0) := by
    rintro K rfl
    unfold fJ29_rotateRight_p85
    rw [x_b1 s5, x_b1 s6]
    rfl
  have p32 : fJ29_rotateRight_p32 m (some a) (some b) Γ h2 n = some (.inl (), ysr (ysr h4 36 3 b (some a)) 36 4 a (some b), 0, 0) := by
    unfold fJ29_rotateRight_p32
    rw [x_b1 g4, x_b1 s3, x_b1 g5, place (fJ29_rotateRight_p85 (some a) (some b))]
    exact fin _ rfl
  unfold fJ29_rotateRight
  rw [if_neg (fun z => nomatch z), x_b1 g1, x_b1 g2, x_b1 s1, x_b1 g3, part (fJ29_rotateRight_p32 m (some a) (some b))]
  exact p32
end KRT
