/-! part 528: the book: put, whole -/
/-- what an added entry leaves -/
def kAd (h g : xH) (n m k : Nat) (e ps : Nat → Nat) (ka va : Nat) : Prop := (∃ l r p rt lo hi, tS g m (k + 1) (va_up e k n) (va_up ps n k) l r p rt lo hi) ∧ yi g 16 4 m = Int32.ofNat (k + 1) ∧ (∀ q, q ≠ m → ¬ nd k e ps q → q ≠ n → g q = h q) ∧ (∀ q, q ≠ n → yhd g q = yhd h q) ∧ xbd (n + 1) g ∧ (∀ x, x ≠ n → yr g 36 0 x = yr h 36 0 x ∧ yr g 36 1 x = yr h 36 1 x) ∧ yr g 36 0 n = some ka ∧ yr g 36 1 n = some va ∧ (∀ j, j ≠ 3 → j ≠ 4 → j ≠ 5 → yr g 16 j m = yr h 16 j m)
section KP2
variable {Γ : Nat → Option Nat} {h g : xH} {n m k y : Nat} {e ps : Nat → Nat} {V : Nat → Nat} {ka va : Nat}
theorem k_putW {l r p : oN} {rt : Option Nat} {lo hi : Nat → Nat} (T : tS h m k e ps l r p rt lo hi) (K : kKV h k y e V) (hb : xbd n h) (hk : k < 10000) (hy : y + k < 2147480000) (hsz : yi h 16 4 m = Int32.ofNat k) (h1 : yO h 15 ka) (h2 : yi h 15 0 ka = Int32.ofNat (y + k)) : ∀ (d fu a : Nat), nd k e ps a → hi a = k → hi a - lo a ≤ d → d < fu →
    ∃ g, fJ29_put_2_p123 fu m (some ka) (some va) (Int32.ofNat 1) (some a) (some ka) Γ h n = some (.inl none, g, 1, 6) ∧ kAd h g n m k e ps ka va := by
  have i0 : (0 : Int32) = Int32.ofNat 0 := rfl
  have c01 : Int32.ofNat 0 ≤ Int32.ofNat 1 := by decide
  have c10 : ¬ Int32.ofNat 1 ≤ Int32.ofNat 0 := by decide
  intro d
  induction d with
  | zero =>
    intro fu a ha hh hd hf
    have := T.2.1.2.1 a ha
    omega
  | succ d ih =>
    intro fu a ha hh hd hf
    obtain ⟨fu, rfl⟩ : ∃ g, fu = g + 1 := ⟨fu - 1, by omega⟩
    have hps := ha.1
    obtain ⟨⟨kb, k1, k2, k3⟩, -⟩ := K (ps a) hps
    rw [ha.2] at k1
    have gk := e_gR (Γ := Γ) (n := n) (yO_of _ _ _ (T.1.2.2 a ha).1) kn36_0
    rw [k1] at gk
    have cmp := k_cmpTo (Γ := Γ) (n := n) h1 h2 k2 k3 (by omega) (by omega)
    rw [if_pos (by omega)] at cmp
    have gr := T.1.gr (Γ := Γ) (n := n) ha
    rw [fJ29_put_2_p123, x_b1 gk, x_b1 cmp, i0, if_pos c01, if_neg c10, x_b1 gr]
    unfold fJ29_put_2_p196
    cases hr : r a with
    | none =>
      obtain ⟨g, e1, r1⟩ := k_add (Γ := Γ) (ka := ka) (va := va) T ha hr hh hb hk hsz
      refine ⟨g, ?_, r1⟩
      rw [if_pos rfl]
      unfold fJ29_put_2_p201
      rw [i0, if_pos c01]
      unfold fJ29_put_2_p216
      rw [x_bc ((e_sel (yO_of _ _ _ T.1.1)).trans e1)]
      rfl
    | some b =>
      rw [if_neg (fun z => nomatch z)]
      obtain ⟨b1, b2, b3, b4⟩ := T.2.1.2.2.2.2.2.1 a b ha hr
      have w1 := T.2.1.2.1 a ha
      have w2 := T.2.1.2.1 b b1
      exact ih fu b b1 (by omega) (by omega) (by omega)
/-- a tree of one node -/
theorem pT_one {e ps : Nat → Nat} {c : Nat} : pT 1 (va_up e 0 c) (va_up ps c 0) (fun _ => none) (fun _ => none) (fun _ => none) (some c) (fun _ => 0) (fun _ => 1) ∧ ∀ x, nd 1 (va_up e 0 c) (va_up ps c 0) x ↔ x = c := by
  have hnd : ∀ x, nd 1 (va_up e 0 c) (va_up ps c 0) x ↔ x = c := by
    intro x
    unfold nd
    constructor
    · rintro ⟨h1, h2⟩
      have : va_up ps c 0 x = 0 := by omega
      rw [this, va_up_self] at h2
      exact h2.symm
    · rintro rfl
      rw [va_up_self, va_up_self]
      exact ⟨by omega, rfl⟩
  refine ⟨⟨fun i hi => ?_, fun x hx => ?_, fun x hx _ => ?_, fun x y hx h0 => (nomatch h0), fun x hx _ => ?_, fun x y hx h0 => (nomatch h0), fun x hx _ => ?_, fun x y hx h0 => (nomatch h0), fun h0 => (nomatch h0), fun x h0 => ?_⟩, hnd⟩
  · obtain rfl : i = 0 := by omega
    rw [va_up_self, va_up_self]
  · have := hx.1
    dsimp only
    omega
  · have := hx.1
    dsimp only
    omega
  · have := hx.1
    dsimp only
    omega
  · rw [(hnd x).mp hx]
  · cases h0
    exact ⟨(hnd c).mpr rfl, rfl, rfl, rfl⟩
theorem k_put0 (W : yW h 16 m) (hcp : yr h 16 2 m = none) (hb : xbd n h) (h1 : yO h 15 ka) {v : Nat} (h2 : yi h 15 0 ka = Int32.ofNat v) (hv : v < 2147483648) : ∃ g, fJ29_addEntryToEmptyMap m (some ka) (some va) Γ h n = some (.inl (), g, 1, 6) ∧ kAd h g n m 0 e ps ka va := by
  have i1 : (1 : Int32) = Int32.ofNat 1 := rfl
  have hn : h n = none := hb n (Nat.le_refl _)
  have mn : m ≠ n := fun z => by have := yO_at (yO_of _ _ _ W); rw [z] at this; exact this hn
  have F := kEn_f (h := h) (c := n) (ka := ka) (va := va) (q := none)
  have old : ∀ x, x ≠ n → kEn h n ka va none x = h x := fun x hx => up_ne hx
  have Wm : yW (kEn h n ka va none) 16 m := (yW_c (old m mn)).mpr W
  have Wr := (yW_sv (kEn h n ka va none) 16 3 m (va_rf (some n)) 16 m).mpr Wm
  obtain ⟨Tp, hnd⟩ := pT_one (e := e) (ps := ps) (c := n)
  have T3 : tS (ysr (kEn h n ka va none) 16 3 m (some n)) m 1 (va_up e 0 n) (va_up ps n 0) (fun _ => none) (fun _ => none) (fun _ => none) (some n) (fun _ => 0) (fun _ => 1) := by
    refine ⟨⟨Wr, ?_, fun x hx => ?_⟩, Tp, fun x hx => ?_⟩
    · rw [yr_sr Wm kn16_3, if_pos ⟨rfl, rfl, rfl⟩]
    · rw [(hnd x).mp hx]
      refine ⟨(yW_sv _ _ _ _ _ _ _).mpr F.1, ?_, ?_, ?_⟩
      · rw [yr_sr Wm kn16_3, if_neg (by omega)]; exact F.2.2.2.1
      · rw [yr_sr Wm kn16_3, if_neg (by omega)]; exact F.2.2.2.2.1
      · rw [yr_sr Wm kn16_3, if_neg (by omega)]; exact F.2.2.2.2.2.1
    · rw [(hnd x).mp hx, yi_sr Wm kn16_3 _ _ _ (by omega)]
      exact Or.inr F.2.2.2.2.2.2
  obtain ⟨w1, w2⟩ := k_size (Γ := Γ) (n := n + 1) (v := Int32.ofNat 1) (w := yi (ysi (ysr (kEn h n ka va none) 16 3 m (some n)) 16 4 m (Int32.ofNat 1)) 16 5 m + Int32.ofNat 1) T3.1.1
  have G := k_sizeF (v := Int32.ofNat 1) (w := yi (ysi (ysr (kEn h n ka va none) 16 3 m (some n)) 16 4 m (Int32.ofNat 1)) 16 5 m + Int32.ofNat 1) T3.1.1
  have g5 := e_gI (Γ := Γ) (n := n + 1) (yO_of _ _ _ ((yW_sv (ysr (kEn h n ka va none) 16 3 m (some n)) 16 4 m (.int (Int32.ofNat 1)) 16 m).mpr T3.1.1)) kn16_5
  have cm : fJ29_compare m (some ka) (some ka) Γ h n = some (.inl (Int32.ofNat 0), h, 0, 0) := by
    have g2 := e_gR (Γ := Γ) (n := n) (yO_of _ _ _ W) kn16_2
    rw [hcp] at g2
    have cmp := k_cmpTo (Γ := Γ) (n := n) h1 h2 h1 h2 hv hv
    rw [if_neg (by omega), if_pos rfl] at cmp
    unfold fJ29_compare
    rw [x_b1 g2, if_pos rfl, x_b1 (k_cst h1 rfl), x_b1 cmp]
    rfl
  refine ⟨_, ?_, ⟨_, _, _, _, _, _, k_sizeT T3⟩, G.2.2.2, fun q a1 a2 a3 => ?_, fun q a1 => ?_, fun q hq => ?_, fun x hx => ⟨?_, ?_⟩, ?_, ?_, fun j a1 a2 a3 => ?_⟩
  · unfold fJ29_addEntryToEmptyMap
    rw [x_b1 ((e_sel (yO_of _ _ _ W)).trans cm), x_bc (show xnew 36 [.null, .null, .null, .null, .null, .int 0] 6 Γ h n = some (.inl n, xupd h n (true, .inr (36, [.null, .null, .null, .null, .null, .int 0])), 1, 6) from rfl), x_b1 k_enInit, x_b1 (e_put Wm (by rw [ykd_rf]; exact kn16_3)), i1, x_b1 w1, x_b1 g5, x_b1 w2]
    rfl
  · exact (G.1 q a1).trans ((ysv_out a1).trans (old q a3))
  · rw [G.2.1 q, yhd_sv, yhd_c (old q a1)]
  · have qn : q ≠ n := by omega
    have qm : q ≠ m := fun z => yO_at (yO_of _ _ _ W) (z ▸ hb q (by omega))
    exact (G.1 q qm).trans ((ysv_out qm).trans ((old q qn).trans (hb q (by omega))))
  · rw [G.2.2.1 _ _ _ (by omega), yr_sr Wm kn16_3, if_neg (by omega), yr_c (old x hx)]
  · rw [G.2.2.1 _ _ _ (by omega), yr_sr Wm kn16_3, if_neg (by omega), yr_c (old x hx)]
  · rw [G.2.2.1 _ _ _ (by omega), yr_sr Wm kn16_3, if_neg (by omega)]; exact F.2.1
  · rw [G.2.2.1 _ _ _ (by omega), yr_sr Wm kn16_3, if_neg (by omega)]; exact F.2.2.1
  · rw [G.2.2.1 _ _ _ (by omega), yr_sr Wm kn16_3, if_neg (by omega), yr_c (old m mn)]
/-- the book with one more -/
theorem kAd.bk (A : kAd h g n m k e ps ka va) (B : kBk h m k y e ps V) (hb : xbd n h) (hk : k < 10000) (h1 : yO h 15 ka) (h2 : yi h 15 0 ka = Int32.ofNat (y + k)) (hy : y + k + 1 < 2147480000) : kBk g m (k + 1) y (va_up e k n) (va_up ps n k) (va_up V k va) := by
  obtain ⟨a1, a2, a3, a4, a5, a6, a7, a8, a9⟩ := A
  obtain ⟨⟨l, r, p, rt, lo, hi, T⟩, b2, b3, b4, b5, b6, b7, b8⟩ := B
  have hn : h n = none := hb n (Nat.le_refl _)
  have mn : m ≠ n := fun z => by have := yO_at (yO_of _ _ _ T.1.1); rw [z] at this; exact this hn
  have en : ∀ i, i < k → e i ≠ n := fun i hi z => by
    have := yO_at (yO_of _ _ _ (T.1.2.2 (e i) ⟨by rw [T.2.1.1 i hi]; exact hi, by rw [T.2.1.1 i hi]⟩).1)
    rw [z] at this
    exact this hn
  have oth : ∀ c a, yO h c a → c ≠ 16 → c ≠ 36 → g a = h a := fun c a ho c1 c2 => a3 a (yO_ne ho (yO_of _ _ _ T.1.1) c1) (fun z => yO_ne ho (yO_of _ _ _ (T.1.2.2 a z).1) c2 rfl) (fun z => yO_at ho (z ▸ hn))
  refine ⟨a1, (a9 2 (by decide) (by decide) (by decide)).trans b2, a2, fun i hi => ?_, fun s hs => ?_, fun s hs => ?_, by omega, by omega⟩
  · by_cases ci : i = k
    · subst ci
      rw [va_up_self, va_up_self]
      have e1 := oth 15 ka h1 (by decide) (by decide)
      exact ⟨⟨ka, a7, (yO_c e1).mpr h1, (yi_c e1).trans h2⟩, a8⟩
    · rw [va_up_ne _ _ ci, va_up_ne _ _ ci]
      obtain ⟨⟨kb, k1, k2, k3⟩, k4⟩ := b4 i (by omega)
      have e1 := oth 15 kb k2 (by decide) (by decide)
      have e2 := a6 (e i) (en i (by omega))
      exact ⟨⟨kb, e2.1.trans k1, (yO_c e1).mpr k2, (yi_c e1).trans k3⟩, e2.2.trans k4⟩
  · rw [a9 6 (by decide) (by decide) (by decide)] at hs
    obtain ⟨s1, s2⟩ := b5 s hs
    have e1 := oth 32 s s1 (by decide) (by decide)
    exact ⟨(yO_c e1).mpr s1, (yr_c e1).trans s2⟩
  · rw [a9 1 (by decide) (by decide) (by decide)] at hs
    obtain ⟨s1, s2⟩ := b6 s hs
    have e1 := oth 11 s s1 (by decide) (by decide)
    exact ⟨(yO_c e1).mpr s1, (yr_c e1).trans s2⟩
/-- put -/
theorem k_put (B : kBk h m k y e ps V) (hb : xbd n h) (hk : k < 10000) (h1 : yO h 15 ka) (h2 : yi h 15 0 ka = Int32.ofNat (y + k)) (hy : y + k + 1 < 2147480000) : ∃ g, xsel (some m) [(16, fun z => fJ29_put z (some ka) (some va))] Γ h n = some (.inl none, g, 1, 6) ∧ kBk g m (k + 1) y (va_up e k n) (va_up ps n k) (va_up V k va) ∧ (∀ q, q ≠ m → ¬ nd k e ps q → q ≠ n → g q = h q) ∧ (∀ q, q ≠ n → yhd g q = yhd h q) ∧ xbd (n + 1) g := by
  have i1 : (1 : Int32) = Int32.ofNat 1 := rfl
  have B0 := B
  obtain ⟨⟨l, r, p, rt, lo, hi, T⟩, b2, b3, b4, b5, b6, b7, b8⟩ := B
  have main : ∃ g, fJ29_put_2 m (some ka) (some va) (Int32.ofNat 1) Γ h n = some (.inl none, g, 1, 6) ∧ kAd h g n m k e ps ka va := by
    unfold fJ29_put_2
    rw [x_b1 T.1.grt]
    cases hrt : rt with
    | none =>
      obtain rfl : k = 0 := T.2.1.2.2.2.2.2.2.2.2.1 hrt
      obtain ⟨g, e1, r1⟩ := k_put0 (Γ := Γ) (e := e) (ps := ps) (va := va) T.1.1 b2 hb h1 h2 (by omega)
      refine ⟨g, ?_, r1⟩
      rw [if_pos rfl, x_bc ((e_sel (yO_of _ _ _ T.1.1)).trans e1)]
      rfl
    | some a =>
      obtain ⟨d1, d2, d3, d4⟩ := T.2.1.2.2.2.2.2.2.2.2.2 a hrt
      have g2 := e_gR (Γ := Γ) (n := n) (yO_of _ _ _ T.1.1) kn16_2
      rw [b2] at g2
      have rn : fJ25_requireNonNull (some ka) Γ h n = some (.inl (some ka), h, 0, 0) := by
        unfold fJ25_requireNonNull
        rw [if_neg (fun z => nomatch z)]
        rfl
      obtain ⟨g, e1, r1⟩ := k_putW (Γ := Γ) (va := va) T b4 hb hk (by omega) b3 h1 h2 k xFU a d1 d3 (by omega) (by unfold xFU; omega)
      refine ⟨g, ?_, r1⟩
      rw [if_neg (fun z => nomatch z), x_b1 g2, if_pos rfl, x_b1 rn, x_b1 (k_cst h1 rfl)]
      exact e1
  obtain ⟨g, e1, r1⟩ := main
  refine ⟨g, ?_, r1.bk B0 hb hk h1 h2 hy, r1.2.2.1, r1.2.2.2.1, r1.2.2.2.2.1⟩
  rw [e_sel (yO_of _ _ _ T.1.1)]
  unfold fJ29_put
  rw [i1, x_bc ((e_sel (yO_of _ _ _ T.1.1)).trans e1)]
  rfl
end KP2
