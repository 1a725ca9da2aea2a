/-! part 530: the book: the last entry up to a key -/
def kFl (k y : Nat) (e : Nat → Nat) (z : Int) : Option Nat := if (y : Int) ≤ z ∧ 0 < k then some (e (if z < y + k then (z - y).toNat else k - 1)) else none
theorem hO {h g : xH} {c a : Nat} (H : yO h c a) (hs : hsub h g) : yO g c a := (yO_c (hs _ (yO_at H))).mpr H
theorem hW {h g : xH} {c a : Nat} (H : yW h c a) (hs : hsub h g) : yW g c a := (yW_c (hs _ (yO_at (yO_of _ _ _ H)))).mpr H
section KFL
variable {Γ : Nat → Option Nat} {h : xH} {n m k y : Nat} {e ps : Nat → Nat} {V : Nat → Nat}
variable {l r p : oN} {rt : Option Nat} {lo hi : Nat → Nat} {ka : Nat} {z : Int32}
theorem k_cmpM (hm : yO h 16 m) (c2 : yr h 16 2 m = none) {kb : Nat} {a b : Int32} (h1 : yO h 15 ka) (v1 : yi h 15 0 ka = a) (h2 : yO h 15 kb) (v2 : yi h 15 0 kb = b) : xsel (some m) [(16, fun z => fJ29_compare z (some ka) (some kb))] Γ h n = some (.inl (if b.toInt < a.toInt then Int32.ofNat 1 else if a.toInt = b.toInt then Int32.ofNat 0 else -Int32.ofNat 1), h, 0, 0) := by
  have g2 := e_gR (Γ := Γ) (n := n) hm kn16_2
  rw [c2] at g2
  rw [e_sel hm]
  unfold fJ29_compare
  rw [x_b1 g2, if_pos rfl, x_b1 (k_cst h1 rfl), x_b1 (k_cmpI h1 v1 h2 v2)]
  rfl
theorem k_floorE (T : tS h m k e ps l r p rt lo hi) (K : kKV h k y e V) (c2 : yr h 16 2 m = none) (hk : k ≤ 10000) (hy : y + k < 2147480000) (h1 : yO h 15 ka) (h2 : yi h 15 0 ka = z) : ∀ (d fu a : Nat), nd k e ps a → hi a - lo a ≤ d → d + 1 < fu → (lo a = 0 ∨ (y : Int) + lo a ≤ z.toInt) → (hi a = k ∨ z.toInt < y + hi a) → fJ29_getFloorEntry_p5 fu m (some ka) (some a) Γ h n = some (.inl (kFl k y e z.toInt), h, 0, 0) := by
  have i0 : (0 : Int32) = Int32.ofNat 0 := rfl
  have c01 : Int32.ofNat 0 ≤ Int32.ofNat 1 := by decide
  have c10 : ¬ Int32.ofNat 1 ≤ Int32.ofNat 0 := by decide
  have c00 : Int32.ofNat 0 ≤ Int32.ofNat 0 := by decide
  have cm : ¬ Int32.ofNat 0 ≤ -Int32.ofNat 1 := by decide
  have cn : -Int32.ofNat 1 ≤ Int32.ofNat 0 := by decide
  intro d
  induction d with
  | zero =>
    intro fu a ha hd hf
    have := T.2.1.2.1 a ha
    omega
  | succ d ih =>
    intro fu a ha hd hf q1 q2
    obtain ⟨fu, rfl⟩ : ∃ g, fu = g + 1 := ⟨fu - 1, by omega⟩
    obtain ⟨kb, g1, k2, k3⟩ := k_keyOf (Γ := Γ) (n := n) T K ha
    have ba := T.2.1.2.1 a ha
    have cmp := k_cmpM (Γ := Γ) (n := n) (yO_of _ _ _ T.1.1) c2 h1 h2 k2 k3
    rw [i_toInt (by omega)] at cmp
    rw [fJ29_getFloorEntry_p5, if_neg (fun z => nomatch z), x_b1 g1, x_b1 cmp, i0]
    by_cases c1 : ((y + ps a : Nat) : Int) < z.toInt
    · have gr := T.1.gr (Γ := Γ) (n := n) ha
      rw [if_pos c1, if_neg c10, x_b1 gr]
      cases hr : r a with
      | none =>
        have := T.2.1.2.2.2.2.1 a ha hr
        rw [if_pos rfl]
        unfold kFl
        rw [if_pos (by omega), if_neg (by omega), show k - 1 = ps a by omega, ha.2]
        rfl
      | some b =>
        obtain ⟨b1, b2, b3, b4⟩ := T.2.1.2.2.2.2.2.1 a b ha hr
        have bb := T.2.1.2.1 b b1
        rw [hr] at gr
        rw [if_neg (fun z => nomatch z), x_b1 gr]
        unfold fJ29_getFloorEntry_p102
        exact ih fu b b1 (by omega) (by omega) (by omega) (by omega)
    · rw [if_neg c1]
      by_cases c3 : z.toInt = ((y + ps a : Nat) : Int)
      · rw [if_pos c3, if_pos c00, if_pos c00]
        unfold kFl
        rw [if_pos (by omega), if_pos (by omega), show (z.toInt - (y : Int)).toNat = ps a by omega, ha.2]
        rfl
      · have gl := T.1.gl (Γ := Γ) (n := n) ha
        rw [if_neg c3, if_pos cn, if_neg cm, x_b1 gl]
        cases hl : l a with
        | none =>
          have := T.2.1.2.2.1 a ha hl
          rw [if_pos rfl, x_b1 (T.1.gp ha), (k_climb T k xFU a ha (by omega) (by unfold xFU; omega)).2, if_neg (by omega)]
          unfold kFl
          rw [if_neg (by omega)]
        | some b =>
          obtain ⟨b1, b2, b3, b4⟩ := T.2.1.2.2.2.1 a b ha hl
          have bb := T.2.1.2.1 b b1
          rw [hl] at gl
          rw [if_neg (fun z => nomatch z), x_b1 gl]
          unfold fJ29_getFloorEntry_p102
          exact ih fu b b1 (by omega) (by omega) (by omega) (by omega)
theorem k_getFloor (B : kBk h m k y e ps V) (h1 : yO h 15 ka) (h2 : yi h 15 0 ka = z) : xsel (some m) [(16, fun x => fJ29_getFloorEntry x (some ka))] Γ h n = some (.inl (kFl k y e z.toInt), h, 0, 0) := by
  obtain ⟨⟨l, r, p, rt, lo, hi, T⟩, b2, b3, b4, b5, b6, b7, b8⟩ := B
  rw [e_sel (yO_of _ _ _ T.1.1)]
  unfold fJ29_getFloorEntry
  rw [x_b1 T.1.grt]
  cases hrt : rt with
  | none =>
    obtain rfl : k = 0 := T.2.1.2.2.2.2.2.2.2.2.1 hrt
    obtain ⟨fu, hfu⟩ : ∃ g, xFU = g + 1 := ⟨999999, rfl⟩
    rw [hfu, fJ29_getFloorEntry_p5, if_pos rfl]
    unfold kFl
    rw [if_neg (by omega)]
    rfl
  | some a =>
    obtain ⟨d1, d2, d3, d4⟩ := T.2.1.2.2.2.2.2.2.2.2.2 a hrt
    exact k_floorE T b4 b2 b7 b8 h1 h2 k xFU a d1 (by omega) (by unfold xFU; omega) (Or.inl d2) (Or.inl d3)
/-- key and value of a node -/
theorem k_nd (B : kBk h m k y e ps V) {i : Nat} (hi' : i < k) : yO h 36 (e i) ∧ yr h 36 1 (e i) = some (V i) ∧ ∃ kb, yr h 36 0 (e i) = some kb ∧ yO h 15 kb ∧ yi h 15 0 kb = Int32.ofNat (y + i) := by
  obtain ⟨⟨l, r, p, rt, lo, hi, T⟩, b2, b3, b4, b5, b6, b7, b8⟩ := B
  have hn : nd k e ps (e i) := ⟨by rw [T.2.1.1 i hi']; exact hi', by rw [T.2.1.1 i hi']⟩
  exact ⟨yO_of _ _ _ (T.1.2.2 _ hn).1, (b4 i hi').2, (b4 i hi').1⟩
theorem k_floor (B : kBk h m k y e ps V) (h1 : yO h 15 ka) (h2 : yi h 15 0 ka = z) (hb : xbd n h) : ∃ q h' dc ds, xsel (some m) [(16, fun x => fJ29_floorEntry x (some ka))] Γ h n = some (.inl q, h', dc, ds) ∧ dc ≤ 1 ∧ ds ≤ 2 ∧ hsub h h' ∧ xbd (n + dc) h' ∧ (¬ ((y : Int) ≤ z.toInt ∧ 0 < k) → q = none) ∧ (((y : Int) ≤ z.toInt ∧ 0 < k) → ∃ c, q = some c ∧ yO h' 31 c ∧ yr h' 31 1 c = some (V (if z.toInt < y + k then (z.toInt - y).toNat else k - 1))) := by
  have e1 := k_getFloor (Γ := Γ) (n := n) B h1 h2
  have hm := yO_of _ _ _ B.1.choose_spec.choose_spec.choose_spec.choose_spec.choose_spec.choose_spec.1.1
  rw [e_sel hm]
  unfold fJ29_floorEntry
  rw [x_b1 e1]
  by_cases c : (y : Int) ≤ z.toInt ∧ 0 < k
  · have hj : (if z.toInt < y + k then (z.toInt - y).toNat else k - 1) < k := by split <;> omega
    obtain ⟨n1, n2, kb, n3, -⟩ := k_nd B hj
    have ek : kFl k y e z.toInt = some (e (if z.toInt < y + k then (z.toInt - y).toNat else k - 1)) := by unfold kFl; rw [if_pos c]
    rw [ek]
    generalize (if z.toInt < y + k then (z.toInt - y).toNat else k - 1) = j at *
    let f : xH := xupd h n (true, .inr (31, [.null, .null]))
    have hf : hsub h f := hsub_up (hb n (Nat.le_refl _))
    have s0 : hsub h (xupd h n (true, .inr (31, [va_rf (some kb), .null]))) := hsub_up (hb n (Nat.le_refl _))
    refine ⟨some n, xupd h n (true, .inr (31, [va_rf (some kb), va_rf (some (V j))])), 1, 2, ?_, by omega, by omega, hsub_up (hb n (Nat.le_refl _)), xbd_up1 hb, fun q => absurd c q, fun _ => ⟨n, rfl, ⟨true, by unfold yhd; rw [up_self]; rfl⟩, by unfold yr yv; rw [up_self]; rfl⟩⟩
    have e2 : fJ29_exportEntry (some (e j)) Γ h n = some (.inl (some n), xupd h n (true, .inr (31, [va_rf (some kb), va_rf (some (V j))])), 1, 2) := by
      unfold fJ29_exportEntry
      rw [if_neg (fun z => nomatch z), x_bc (show xnew 31 [.null, .null] 2 Γ h n = some (.inl n, f, 1, 2) from rfl)]
      have w1 : xput 31 0 (some n) (va_rf (some kb)) Γ f (n + 1) = some (.inl (), xupd h n (true, .inr (31, [va_rf (some kb), .null])), 0, 0) := o1_p (Γ := Γ) (h := h) (n := n + 1) (a := n) (ci := 31) (k := 0) (fs := [.null, .null]) (v := va_rf (some kb)) (by simp)
      have w2 : xput 31 1 (some n) (va_rf (some (V j))) Γ (xupd h n (true, .inr (31, [va_rf (some kb), .null]))) (n + 1) = some (.inl (), xupd h n (true, .inr (31, [va_rf (some kb), va_rf (some (V j))])), 0, 0) := o1_p (Γ := Γ) (h := h) (n := n + 1) (a := n) (ci := 31) (k := 1) (fs := [va_rf (some kb), .null]) (v := va_rf (some (V j))) (by simp)
      have g1 := e_gR (Γ := Γ) (n := n + 1) (hO n1 hf) kn36_0
      rw [yr_c (hf _ (yO_at n1)), n3] at g1
      have g2 := e_gR (Γ := Γ) (n := n + 1) (hO n1 s0) kn36_1
      rw [yr_c (s0 _ (yO_at n1)), n2] at g2
      have r1 : xsel (some (e j)) [(36, fun z => fJ47_getKey z)] Γ f (n + 1) = some (.inl (some kb), f, 0, 0) := by
        rw [e_sel (hO n1 hf)]
        unfold fJ47_getKey
        rw [x_b1 g1]
        rfl
      have r2 : xsel (some (e j)) [(36, fun z => fJ47_getValue z)] Γ (xupd h n (true, .inr (31, [va_rf (some kb), .null]))) (n + 1) = some (.inl (some (V j)), xupd h n (true, .inr (31, [va_rf (some kb), .null])), 0, 0) := by
        rw [e_sel (hO n1 s0)]
        unfold fJ47_getValue
        rw [x_b1 g2]
        rfl
      have r3 : fJ35_init n (some (e j)) Γ f (n + 1) = some (.inl (), xupd h n (true, .inr (31, [va_rf (some kb), va_rf (some (V j))])), 0, 0) := by
        unfold fJ35_init
        rw [x_b1 r1, x_b1 w1, x_b1 r2, x_b1 w2]
        rfl
      rw [x_b1 r3]
      rfl
    rw [x_bc e2]
    rfl
  · have ek : kFl k y e z.toInt = none := by unfold kFl; rw [if_neg c]
    refine ⟨none, h, 0, 0, ?_, by omega, by omega, hsub.rfl, hb, fun _ => rfl, fun q => absurd q c⟩
    rw [ek, x_b1 (show fJ29_exportEntry none Γ h n = some (.inl none, h, 0, 0) by unfold fJ29_exportEntry; rw [if_pos rfl]; rfl)]
    rfl
/-- the book in a larger heap -/
theorem kBk.mono {g : xH} (B : kBk h m k y e ps V) (hs : hsub h g) : kBk g m k y e ps V := by
  obtain ⟨⟨l, r, p, rt, lo, hi, T⟩, b2, b3, b4, b5, b6, b7, b8⟩ := B
  have em : g m = h m := hs _ (yO_at (yO_of _ _ _ T.1.1))
  have ee : ∀ a, nd k e ps a → g a = h a := fun a ha => hs _ (yO_at (yO_of _ _ _ (T.1.2.2 a ha).1))
  refine ⟨⟨l, r, p, rt, lo, hi, ⟨(yW_c em).mpr T.1.1, by rw [yr_c em]; exact T.1.2.1, fun a ha => ?_⟩, T.2.1, fun a ha => by rw [yi_c (ee a ha)]; exact T.2.2 a ha⟩, by rw [yr_c em]; exact b2, by rw [yi_c em]; exact b3, fun i hi' => ?_, fun s hs' => ?_, fun s hs' => ?_, b7, b8⟩
  · obtain ⟨q1, q2, q3, q4⟩ := T.1.2.2 a ha
    exact ⟨(yW_c (ee a ha)).mpr q1, by rw [yr_c (ee a ha)]; exact q2, by rw [yr_c (ee a ha)]; exact q3, by rw [yr_c (ee a ha)]; exact q4⟩
  · have hn : nd k e ps (e i) := ⟨by rw [T.2.1.1 i hi']; exact hi', by rw [T.2.1.1 i hi']⟩
    obtain ⟨⟨kb, k1, k2, k3⟩, k4⟩ := b4 i hi'
    exact ⟨⟨kb, by rw [yr_c (ee _ hn)]; exact k1, hO k2 hs, by rw [yi_c (hs _ (yO_at k2))]; exact k3⟩, by rw [yr_c (ee _ hn)]; exact k4⟩
  · rw [yr_c em] at hs'
    obtain ⟨q1, q2⟩ := b5 s hs'
    exact ⟨hO q1 hs, by rw [yr_c (hs _ (yO_at q1))]; exact q2⟩
  · rw [yr_c em] at hs'
    obtain ⟨q1, q2⟩ := b6 s hs'
    exact ⟨hO q1 hs, by rw [yr_c (hs _ (yO_at q1))]; exact q2⟩
/-- the closed ledgers of species s, kept by the species p -/
def kBo (h : xH) (p m : Nat) (e ps V : Nat → Nat) (N L : Nat → Int32) (s : Nat) : Prop := yr h 20 5 p = some m ∧ nn (N 2) ≤ nn (N 1) ∧ kBk h m (nn (N 2)) (pFY N) e ps V ∧ ∀ i, i < nn (N 2) → yO h 22 (V i) ∧ ∀ w, w < 7 → yi h 22 w (V i) = L ((i * 4 + s) * 7 + w)
theorem kBo.mono {g : xH} {N L : Nat → Int32} {q s : Nat} (B : kBo h q m e ps V N L s) (hq : yO h 20 q) (hs : hsub h g) : kBo g q m e ps V N L s :=
  ⟨by rw [yr_c (hs _ (yO_at hq))]; exact B.1, B.2.1, B.2.2.1.mono hs, fun i hi' => ⟨hO (B.2.2.2 i hi').1 hs, fun w hw => by rw [yi_c (hs _ (yO_at (B.2.2.2 i hi').1))]; exact (B.2.2.2 i hi').2 w hw⟩⟩
end KFL
