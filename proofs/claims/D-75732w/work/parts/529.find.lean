/-! part 529: the book: looked up -/
section KFD
variable {Γ : Nat → Option Nat} {h : xH} {n m k y : Nat} {e ps : Nat → Nat} {V : Nat → Nat}
theorem k_valueI {v : Int32} (hc : kCa Γ h) (hb : xbd n h) : ∃ ka h' dc ds, fJ17_valueOf v Γ h n = some (.inl (some ka), h', dc, ds) ∧ dc ≤ 1 ∧ ds ≤ 1 ∧ hsub h h' ∧ xbd (n + dc) h' ∧ yO h' 15 ka ∧ yi h' 15 0 ka = v := by
  have big : ∃ ka h' dc ds, fJ17_valueOf_p23 v Γ h n = some (.inl (some ka), h', dc, ds) ∧ dc ≤ 1 ∧ ds ≤ 1 ∧ hsub h h' ∧ xbd (n + dc) h' ∧ yO h' 15 ka ∧ yi h' 15 0 ka = v := by
    refine ⟨n, xupd h n (true, .inr (15, [.int v])), 1, 1, ?_, by omega, by omega, hsub_up (hb n (Nat.le_refl _)), xbd_up1 hb, ⟨true, by unfold yhd; rw [up_self]; rfl⟩, by unfold yi yv; rw [up_self]; rfl⟩
    unfold fJ17_valueOf_p23
    rw [x_bc (show xnew 15 [.int 0] 1 Γ h n = some (.inl n, xupd h n (true, .inr (15, [.int 0])), 1, 1) from rfl)]
    unfold fJ17_init fJ16_init__J17
    have e1 := o1_p (Γ := Γ) (h := h) (n := n + 1) (a := n) (ci := 15) (k := 0) (fs := [.int 0]) (v := .int v) (by simp)
    have e2 : (xbind (xpure ()) fun (_ : Unit) => xbind (xput 15 0 (some n) (.int v)) fun _ => xpure ()) Γ (xupd h n (true, .inr (15, [.int 0]))) (n + 1) = some (.inl (), xupd h n (true, .inr (15, [.int v])), 0, 0) := by
      rw [x_b1 (show xpure () Γ (xupd h n (true, .inr (15, [.int 0]))) (n + 1) = some (.inl (), xupd h n (true, .inr (15, [.int 0])), 0, 0) from rfl), x_b1 e1]
      rfl
    rw [x_b1 e2]
    rfl
  unfold fJ17_valueOf
  by_cases c1 : v < (-128 : Int32)
  · rw [if_pos c1]; exact big
  · rw [if_neg c1]
    by_cases c2 : (127 : Int32) < v
    · rw [if_pos c2]; exact big
    · rw [if_neg c2]
      rw [Int32.lt_iff_toInt_lt] at c1 c2
      have m1 : (-128 : Int32).toInt = -128 := by decide
      have m2 : (127 : Int32).toInt = 127 := by decide
      have m3 : (128 : Int32).toInt = 128 := by decide
      have ev : v + (128 : Int32) = Int32.ofNat (v.toInt + 128).toNat := by
        rw [← Int32.toInt_inj, Int32.toInt_add, m3, i_toInt (by omega), Int.bmod_eq_of_le] <;> omega
      obtain ⟨ca, h1, h2, h3, h4⟩ := hc
      obtain ⟨o, o1, o2, o3⟩ := h4 (v.toInt + 128).toNat (by omega)
      refine ⟨o, h, 0, 0, ?_, by omega, by omega, hsub.rfl, hb, o2, ?_⟩
      · have e1 : xldR (some ca) (Int32.ofNat (v.toInt + 128).toNat) Γ h n = some (.inl (some o), h, 0, 0) := by
          rw [e_ldR h2 ytk_7 (by omega) (yin_of (by omega) (by omega)), i_nat (by omega), o1]
        have e0 : xcon 13 Γ h n = some (.inl (some ca), h, 0, 0) := by unfold xcon; rw [h1]
        rw [x_b1 e0, ev, x_b1 e1]
        rfl
      · rw [o3, ← ev]
        exact Int32.add_sub_cancel v 128
theorem k_cmpI {ka kb : Nat} {a b : Int32} (h1 : yO h 15 ka) (v1 : yi h 15 0 ka = a) (h2 : yO h 15 kb) (v2 : yi h 15 0 kb = b) : xsel (some ka) [(15, fun z => fJ17_compareTo z (some kb))] Γ h n = some (.inl (if b.toInt < a.toInt then Int32.ofNat 1 else if a.toInt = b.toInt then Int32.ofNat 0 else -Int32.ofNat 1), h, 0, 0) := by
  have g1 := e_gI (Γ := Γ) (n := n) h1 kn15_0
  have g2 := e_gI (Γ := Γ) (n := n) h2 kn15_0
  rw [v1] at g1
  rw [v2] at g2
  have e0 : fJ17_compare a b Γ h n = some (.inl (if b.toInt < a.toInt then Int32.ofNat 1 else if a.toInt = b.toInt then Int32.ofNat 0 else -Int32.ofNat 1), h, 0, 0) := by
    unfold fJ17_compare
    by_cases c1 : b.toInt ≤ a.toInt
    · rw [if_pos (Int32.le_iff_toInt_le.mpr c1)]
      by_cases c2 : a.toInt = b.toInt
      · rw [if_pos (Int32.toInt_inj.mp c2), if_neg (by omega), if_pos c2]; rfl
      · rw [if_neg (fun z => c2 (by rw [z])), if_pos (by omega)]; rfl
    · rw [if_neg (fun z => c1 (Int32.le_iff_toInt_le.mp z)), if_neg (by omega), if_neg (by omega)]; rfl
  have e2 : fJ17_compareTo_2 ka (some kb) Γ h n = some (.inl (if b.toInt < a.toInt then Int32.ofNat 1 else if a.toInt = b.toInt then Int32.ofNat 0 else -Int32.ofNat 1), h, 0, 0) := by
    unfold fJ17_compareTo_2
    rw [x_b1 g1, x_b1 g2, x_b1 e0]
    rfl
  rw [e_sel h1]
  unfold fJ17_compareTo
  rw [x_b1 (k_cst (ok := fun c => c == 15) h2 rfl), x_b1 ((e_sel h1).trans e2)]
  rfl
variable {l r p : oN} {rt : Option Nat} {lo hi : Nat → Nat} {ka : Nat} {z : Int32}
/-- the key of a node -/
theorem k_keyOf (T : tS h m k e ps l r p rt lo hi) (K : kKV h k y e V) {a : Nat} (ha : nd k e ps a) : ∃ kb, xgR 36 0 (some a) Γ h n = some (.inl (some kb), h, 0, 0) ∧ yO h 15 kb ∧ yi h 15 0 kb = Int32.ofNat (y + ps a) := by
  obtain ⟨⟨kb, k1, k2, k3⟩, -⟩ := K (ps a) ha.1
  rw [ha.2] at k1
  exact ⟨kb, by rw [e_gR (yO_of _ _ _ (T.1.2.2 a ha).1) kn36_0, k1], k2, k3⟩
theorem k_getE (T : tS h m k e ps l r p rt lo hi) (K : kKV h k y e V) (hy : y + k < 2147480000) (h1 : yO h 15 ka) (h2 : yi h 15 0 ka = z) : ∀ (d fu a : Nat), nd k e ps a → hi a - lo a ≤ d → d + 1 < fu → fJ29_getEntry_p28 fu (some ka) (some a) Γ h n = some (.inl (if (y : Int) + lo a ≤ z.toInt ∧ z.toInt < y + hi a then some (e (z.toInt - y).toNat) else none), h, 0, 0) := by
  have i0 : (0 : Int32) = Int32.ofNat 0 := rfl
  have c01 : Int32.ofNat 0 ≤ Int32.ofNat 1 := by decide
  have c10 : ¬ Int32.ofNat 1 ≤ Int32.ofNat 0 := by decide
  have c00 : Int32.ofNat 0 ≤ Int32.ofNat 0 := by decide
  have cm : ¬ Int32.ofNat 0 ≤ -Int32.ofNat 1 := by decide
  intro d
  induction d with
  | zero =>
    intro fu a ha hd hf
    have := T.2.1.2.1 a ha
    omega
  | succ d ih =>
    intro fu a ha hd hf
    obtain ⟨fu, rfl⟩ : ∃ g, fu = g + 1 := ⟨fu - 1, by omega⟩
    obtain ⟨kb, g1, k2, k3⟩ := k_keyOf (Γ := Γ) (n := n) T K ha
    have ba := T.2.1.2.1 a ha
    have cmp := k_cmpI (Γ := Γ) (n := n) h1 h2 k2 k3
    rw [i_toInt (by omega)] at cmp
    have nn0 : ∀ fu', 0 < fu' → fJ29_getEntry_p28 fu' (some ka) none Γ h n = some (.inl none, h, 0, 0) := by
      intro fu' hf'
      obtain ⟨fu', rfl⟩ : ∃ g, fu' = g + 1 := ⟨fu' - 1, by omega⟩
      rw [fJ29_getEntry_p28, if_pos rfl]
      rfl
    rw [fJ29_getEntry_p28, if_neg (fun z => nomatch z), x_b1 g1, x_b1 cmp, i0]
    by_cases c1 : ((y + ps a : Nat) : Int) < z.toInt
    · rw [if_pos c1, if_pos c01, if_neg c10, x_b1 (T.1.gr ha)]
      unfold fJ29_getEntry_p72
      cases hr : r a with
      | none =>
        have := T.2.1.2.2.2.2.1 a ha hr
        rw [nn0 fu (by omega), if_neg (by omega)]
      | some b =>
        obtain ⟨b1, b2, b3, b4⟩ := T.2.1.2.2.2.2.2.1 a b ha hr
        have bb := T.2.1.2.1 b b1
        rw [ih fu b b1 (by omega) (by omega), b2, b3]
        by_cases c2 : (y : Int) + lo a ≤ z.toInt ∧ z.toInt < y + hi a
        · rw [if_pos c2, if_pos (by omega)]
        · rw [if_neg c2, if_neg (by omega)]
    · rw [if_neg c1]
      by_cases c2 : z.toInt = ((y + ps a : Nat) : Int)
      · rw [if_pos c2, if_pos c00, if_pos c00, if_pos (by omega)]
        have : (z.toInt - (y : Int)).toNat = ps a := by omega
        rw [this, ha.2]
        rfl
      · rw [if_neg c2, if_neg cm, x_b1 (T.1.gl ha)]
        unfold fJ29_getEntry_p72
        cases hl : l a with
        | none =>
          have := T.2.1.2.2.1 a ha hl
          rw [nn0 fu (by omega), if_neg (by omega)]
        | some b =>
          obtain ⟨b1, b2, b3, b4⟩ := T.2.1.2.2.2.1 a b ha hl
          have bb := T.2.1.2.1 b b1
          rw [ih fu b b1 (by omega) (by omega), b2, b3]
          by_cases c3 : (y : Int) + lo a ≤ z.toInt ∧ z.toInt < y + hi a
          · rw [if_pos c3, if_pos (by omega)]
          · rw [if_neg c3, if_neg (by omega)]
theorem k_getEntry (B : kBk h m k y e ps V) (h1 : yO h 15 ka) (h2 : yi h 15 0 ka = z) : xsel (some m) [(16, fun x => fJ29_getEntry x (some ka))] Γ h n = some (.inl (if (y : Int) ≤ z.toInt ∧ z.toInt < y + k then some (e (z.toInt - y).toNat) else none), h, 0, 0) := by
  obtain ⟨⟨l, r, p, rt, lo, hi, T⟩, b2, b3, b4, b5, b6, b7, b8⟩ := B
  have g2 := e_gR (Γ := Γ) (n := n) (yO_of _ _ _ T.1.1) kn16_2
  rw [b2] at g2
  have rn : fJ25_requireNonNull (some ka) Γ h n = some (.inl (some ka), h, 0, 0) := by
    unfold fJ25_requireNonNull
    rw [if_neg (fun z => nomatch z)]
    rfl
  rw [e_sel (yO_of _ _ _ T.1.1)]
  unfold fJ29_getEntry
  rw [x_b1 g2, if_pos rfl, x_b1 rn, x_b1 (k_cst h1 rfl), x_b1 T.1.grt]
  cases hrt : rt with
  | none =>
    obtain rfl : k = 0 := T.2.1.2.2.2.2.2.2.2.2.1 hrt
    obtain ⟨fu, hfu⟩ : ∃ g, xFU = g + 1 := ⟨999999, rfl⟩
    rw [hfu, fJ29_getEntry_p28, if_pos rfl, if_neg (by omega)]
    rfl
  | some a =>
    obtain ⟨d1, d2, d3, d4⟩ := T.2.1.2.2.2.2.2.2.2.2.2 a hrt
    rw [k_getE T b4 b8 h1 h2 k xFU a d1 (by omega) (by unfold xFU; omega), d2, d3]
    simp only [Int.natCast_zero, Int.add_zero]
theorem k_get (B : kBk h m k y e ps V) (h1 : yO h 15 ka) (h2 : yi h 15 0 ka = z) : xsel (some m) [(16, fun x => fJ29_get x (some ka))] Γ h n = some (.inl (if (y : Int) ≤ z.toInt ∧ z.toInt < y + k then some (V (z.toInt - y).toNat) else none), h, 0, 0) := by
  have e1 := k_getEntry (Γ := Γ) (n := n) B h1 h2
  obtain ⟨⟨l, r, p, rt, lo, hi, T⟩, b2, b3, b4, b5, b6, b7, b8⟩ := B
  rw [e_sel (yO_of _ _ _ T.1.1)]
  unfold fJ29_get
  rw [x_b1 e1]
  by_cases c : (y : Int) ≤ z.toInt ∧ z.toInt < y + k
  · rw [if_pos c, if_pos c, if_neg (fun z => nomatch z)]
    have hi' : (z.toInt - (y : Int)).toNat < k := by omega
    have hn : nd k e ps (e (z.toInt - (y : Int)).toNat) := ⟨by rw [T.2.1.1 _ hi']; exact hi', by rw [T.2.1.1 _ hi']⟩
    have g := e_gR (Γ := Γ) (n := n) (yO_of _ _ _ (T.1.2.2 _ hn).1) kn36_1
    rw [(b4 _ hi').2] at g
    rw [x_b1 g]
    rfl
  · rw [if_neg c, if_neg c, if_pos rfl]
    rfl
/-! neighbours -/
theorem k_leftmost (T : tS h m k e ps l r p rt lo hi) : ∀ (d fu a : Nat), nd k e ps a → hi a - lo a ≤ d → d < fu → fJ29_successor_p18 fu (some a) Γ h n = some (.inl (some (e (lo a))), h, 0, 0) ∧ fJ29_getFirstEntry_p9 fu (some a) Γ h n = some (.inl (some (e (lo a))), h, 0, 0) := by
  intro d
  induction d with
  | zero =>
    intro fu a ha hd hf
    have := T.2.1.2.1 a ha
    omega
  | succ d ih =>
    intro fu a ha hd hf
    obtain ⟨fu, rfl⟩ : ∃ g, fu = g + 1 := ⟨fu - 1, by omega⟩
    have ba := T.2.1.2.1 a ha
    have g := T.1.gl (Γ := Γ) (n := n) ha
    rw [fJ29_successor_p18, fJ29_getFirstEntry_p9, x_b1 g, x_b1 g]
    cases hl : l a with
    | none =>
      have := T.2.1.2.2.1 a ha hl
      rw [if_pos rfl, if_pos rfl, this, ha.2]
      exact ⟨rfl, rfl⟩
    | some b =>
      obtain ⟨b1, b2, b3, b4⟩ := T.2.1.2.2.2.1 a b ha hl
      have bb := T.2.1.2.1 b b1
      rw [hl] at g
      rw [if_neg (fun z => nomatch z), if_neg (fun z => nomatch z), x_b1 g, x_b1 g, ← b2]
      exact ih fu b b1 (by omega) (by omega)
theorem k_climb (T : tS h m k e ps l r p rt lo hi) : ∀ (d fu a : Nat), nd k e ps a → k - (hi a - lo a) ≤ d → d + 1 < fu → fJ29_successor_p42 fu (p a) (some a) Γ h n = some (.inl (if hi a < k then some (e (hi a)) else none), h, 0, 0) ∧ fJ29_getFloorEntry_p68 fu (p a) (some a) Γ h n = some (.inl (if 0 < lo a then some (e (lo a - 1)) else none), h, 0, 0) := by
  have top : ∀ (fu a : Nat), nd k e ps a → 0 < fu → p a = none → fJ29_successor_p42 fu (p a) (some a) Γ h n = some (.inl (if hi a < k then some (e (hi a)) else none), h, 0, 0) ∧ fJ29_getFloorEntry_p68 fu (p a) (some a) Γ h n = some (.inl (if 0 < lo a then some (e (lo a - 1)) else none), h, 0, 0) := by
    intro fu a ha hf hp
    obtain ⟨fu, rfl⟩ : ∃ g, fu = g + 1 := ⟨fu - 1, by omega⟩
    obtain ⟨-, d2, d3, -⟩ := T.2.1.2.2.2.2.2.2.2.2.2 a (T.2.1.2.2.2.2.2.2.1 a ha hp)
    rw [hp, fJ29_successor_p42, fJ29_getFloorEntry_p68, if_pos rfl, if_pos rfl, if_neg (by omega), if_neg (by omega)]
    exact ⟨rfl, rfl⟩
  intro d
  induction d with
  | zero =>
    intro fu a ha hd hf
    have ba := T.2.1.2.1 a ha
    refine top fu a ha (by omega) ?_
    cases hp : p a with
    | none => rfl
    | some b =>
      have h1 := T.2.1.up ha hp
      have h2 := T.2.1.2.1 b h1.1
      omega
  | succ d ih =>
    intro fu a ha hd hf
    cases hp : p a with
    | none =>
      have := top fu a ha (by omega) hp
      rw [hp] at this
      exact this
    | some b =>
      obtain ⟨fu, rfl⟩ : ∃ g, fu = g + 1 := ⟨fu - 1, by omega⟩
      obtain ⟨hb, h1⟩ := T.2.1.up ha hp
      have ba := T.2.1.2.1 a ha
      have bb := T.2.1.2.1 b hb
      obtain ⟨-, side⟩ := T.2.1.2.2.2.2.2.2.2.1 a b ha hp
      obtain ⟨i1, i2⟩ := ih fu b hb (by omega) (by omega)
      rw [fJ29_successor_p42, fJ29_getFloorEntry_p68, if_neg (show ¬ (some b : Option Nat) = none from fun z => nomatch z), if_neg (show ¬ (some b : Option Nat) = none from fun z => nomatch z), x_b1 (T.1.gr hb), x_b1 (T.1.gl hb)]
      rcases side with s | s
      · obtain ⟨-, w2, w3, -⟩ := T.2.1.2.2.2.1 b a hb s
        have nr : ¬ some a = r b := by
          intro z
          obtain ⟨-, v2, v3, -⟩ := T.2.1.2.2.2.2.2.1 b a hb z.symm
          omega
        rw [if_neg nr, if_pos s.symm, x_b1 (T.1.gp hb), if_pos (show hi a < k by omega), w3, hb.2, w2]
        exact ⟨rfl, i2⟩
      · obtain ⟨-, w2, w3, -⟩ := T.2.1.2.2.2.2.2.1 b a hb s
        have nl : ¬ some a = l b := by
          intro z
          obtain ⟨-, v2, v3, -⟩ := T.2.1.2.2.2.1 b a hb z.symm
          omega
        rw [if_pos s.symm, if_neg nl, x_b1 (T.1.gp hb), w2, w3, if_pos (show 0 < ps b + 1 by omega), Nat.add_sub_cancel, hb.2]
        exact ⟨i1, rfl⟩
theorem k_succ (T : tS h m k e ps l r p rt lo hi) (hk : k ≤ 10000) {i : Nat} (hi' : i < k) : fJ29_successor (some (e i)) Γ h n = some (.inl (if i + 1 < k then some (e (i + 1)) else none), h, 0, 0) := by
  have hn : nd k e ps (e i) := ⟨by rw [T.2.1.1 i hi']; exact hi', by rw [T.2.1.1 i hi']⟩
  have hps := T.2.1.1 i hi'
  have ba := T.2.1.2.1 (e i) hn
  have g := T.1.gr (Γ := Γ) (n := n) hn
  unfold fJ29_successor
  rw [if_neg (fun z => nomatch z), x_b1 g]
  cases hr : r (e i) with
  | none =>
    have := T.2.1.2.2.2.2.1 (e i) hn hr
    rw [if_pos rfl, x_b1 (T.1.gp hn), (k_climb T k xFU (e i) hn (by omega) (by unfold xFU; omega)).1, this, hps]
  | some b =>
    obtain ⟨b1, b2, b3, b4⟩ := T.2.1.2.2.2.2.2.1 (e i) b hn hr
    have bb := T.2.1.2.1 b b1
    rw [hr] at g
    rw [if_neg (fun z => nomatch z), x_b1 g, (k_leftmost T k xFU b b1 (by omega) (by unfold xFU; omega)).1, b2, hps, if_pos (by omega)]
theorem k_first (T : tS h m k e ps l r p rt lo hi) (hk : k ≤ 10000) : xsel (some m) [(16, fun z => fJ29_getFirstEntry z)] Γ h n = some (.inl (if 0 < k then some (e 0) else none), h, 0, 0) := by
  rw [e_sel (yO_of _ _ _ T.1.1)]
  unfold fJ29_getFirstEntry
  rw [x_b1 T.1.grt]
  cases hrt : rt with
  | none =>
    have := T.2.1.2.2.2.2.2.2.2.2.1 hrt
    rw [if_pos rfl, if_neg (by omega)]
    rfl
  | some a =>
    obtain ⟨d1, d2, d3, d4⟩ := T.2.1.2.2.2.2.2.2.2.2.2 a hrt
    have := d1.1
    rw [if_neg (fun z => nomatch z), (k_leftmost T k xFU a d1 (by omega) (by unfold xFU; omega)).2, d2, if_pos (by omega)]
end KFD
