/-! part 526: the book of a species: a tree with the keys y, y + 1, ..; a ledger is put behind them -/
theorem pT.add {k : Nat} {e ps : Nat → Nat} {l r p : oN} {rt : Option Nat} {lo hi : Nat → Nat} {a c : Nat} (T : pT k e ps l r p rt lo hi) (ha : nd k e ps a) (hr : r a = none) (hh : hi a = k) (hc : ¬ nd k e ps c) :
    pT (k + 1) (va_up e k c) (va_up ps c k) (va_up l c none) (va_up (va_up r a (some c)) c none) (va_up p c (some a)) rt (va_up lo c k) (fun x => if x = c then k + 1 else if hi x = k then k + 1 else hi x) ∧ ∀ x, nd (k + 1) (va_up e k c) (va_up ps c k) x ↔ nd k e ps x ∨ x = c := by
  obtain ⟨t1, t2, t3, t4, t5, t6, t7, t8, t9, t10⟩ := T
  have hne : ∀ x, nd k e ps x → x ≠ c := fun x hx z => hc (z ▸ hx)
  have e1 : ∀ i, i < k → e i ≠ c := fun i hi z => hc (z ▸ ⟨by rw [t1 i hi]; exact hi, by rw [t1 i hi]⟩)
  have hnd : ∀ x, nd (k + 1) (va_up e k c) (va_up ps c k) x ↔ nd k e ps x ∨ x = c := by
    intro x
    unfold nd
    by_cases cx : x = c
    · subst cx
      rw [va_up_self, va_up_self]
      exact ⟨fun _ => Or.inr rfl, fun _ => ⟨by omega, rfl⟩⟩
    · rw [va_up_ne _ _ cx]
      constructor
      · rintro ⟨h1, h2⟩
        by_cases ck : ps x = k
        · rw [ck, va_up_self] at h2
          exact absurd h2.symm cx
        · rw [va_up_ne _ _ ck] at h2
          exact Or.inl ⟨by omega, h2⟩
      · rintro (⟨h1, h2⟩ | h1)
        · exact ⟨by omega, by rw [va_up_ne _ _ (by omega)]; exact h2⟩
        · exact absurd h1 cx
  have hac := hne a ha
  refine ⟨⟨fun i hi => ?_, fun x hx => ?_, fun x hx h0 => ?_, fun x y hx h0 => ?_, fun x hx h0 => ?_, fun x y hx h0 => ?_, fun x hx h0 => ?_, fun x y hx h0 => ?_, fun h0 => ?_, fun x h0 => ?_⟩, hnd⟩
  · by_cases ck : i = k
    · subst ck
      rw [va_up_self, va_up_self]
    · rw [va_up_ne _ _ ck, va_up_ne _ _ (e1 i (by omega)), t1 i (by omega)]
  · dsimp only
    rcases (hnd x).mp hx with hx | rfl
    · have cx := hne x hx
      have := t2 x hx
      rw [va_up_ne _ _ cx, va_up_ne _ _ cx, if_neg cx]
      split <;> omega
    · rw [va_up_self, va_up_self, if_pos rfl]
      omega
  · rcases (hnd x).mp hx with hx | rfl
    · have cx := hne x hx
      rw [va_up_ne _ _ cx] at h0 ⊢
      rw [va_up_ne _ _ cx]
      exact t3 x hx h0
    · rw [va_up_self, va_up_self]
  · dsimp only
    rcases (hnd x).mp hx with hx | rfl
    · have cx := hne x hx
      rw [va_up_ne _ _ cx] at h0
      obtain ⟨d1, d2, d3, d4⟩ := t4 x y hx h0
      have cy := hne y d1
      have b1 := t2 x hx
      rw [va_up_ne _ _ cy, va_up_ne _ _ cx, va_up_ne _ _ cy, va_up_ne _ _ cx, if_neg cy, if_neg (by omega)]
      exact ⟨(hnd y).mpr (Or.inl d1), d2, d3, d4⟩
    · rw [va_up_self] at h0
      cases h0
  · dsimp only
    rcases (hnd x).mp hx with hx | rfl
    · have cx := hne x hx
      rw [va_up_ne _ _ cx] at h0
      by_cases ca : x = a
      · subst ca
        rw [va_up_self] at h0
        cases h0
      · rw [va_up_ne _ _ ca] at h0
        have d := t5 x hx h0
        rw [if_neg cx, va_up_ne _ _ cx]
        have a1 := t5 a ha hr
        have : ps x ≠ ps a := fun z => ca (nd_eq hx ha z)
        split <;> omega
    · rw [if_pos rfl, va_up_self]
  · dsimp only
    rcases (hnd x).mp hx with hx | rfl
    · have cx := hne x hx
      rw [va_up_ne _ _ cx] at h0
      by_cases ca : x = a
      · subst ca
        rw [va_up_self] at h0
        cases h0
        have a1 := t5 x ha hr
        refine ⟨(hnd c).mpr (Or.inr rfl), ?_, ?_, va_up_self _ _ _⟩
        · rw [va_up_self, va_up_ne _ _ cx]; omega
        · rw [if_pos rfl, if_neg cx, if_pos hh]
      · rw [va_up_ne _ _ ca] at h0
        obtain ⟨d1, d2, d3, d4⟩ := t6 x y hx h0
        have cy := hne y d1
        rw [va_up_ne _ _ cy, va_up_ne _ _ cx, va_up_ne _ _ cy, if_neg cy, if_neg cx, d3]
        exact ⟨(hnd y).mpr (Or.inl d1), d2, rfl, d4⟩
    · rw [va_up_self] at h0
      cases h0
  · rcases (hnd x).mp hx with hx | rfl
    · rw [va_up_ne _ _ (hne x hx)] at h0
      exact t7 x hx h0
    · rw [va_up_self] at h0
      cases h0
  · rcases (hnd x).mp hx with hx | rfl
    · have cx := hne x hx
      rw [va_up_ne _ _ cx] at h0
      obtain ⟨d1, d2⟩ := t8 x y hx h0
      have cy := hne y d1
      refine ⟨(hnd y).mpr (Or.inl d1), ?_⟩
      rw [va_up_ne _ _ cy, va_up_ne _ _ cy]
      rcases d2 with d2 | d2
      · exact Or.inl d2
      · refine Or.inr ?_
        rw [va_up_ne _ _ (fun z => by subst z; rw [hr] at d2; cases d2)]
        exact d2
    · rw [va_up_self] at h0
      cases h0
      exact ⟨(hnd a).mpr (Or.inl ha), Or.inr (by rw [va_up_ne _ _ hac, va_up_self])⟩
  · have := t9 h0
    have := ha.1
    omega
  · obtain ⟨d1, d2, d3, d4⟩ := t10 x h0
    have cx := hne x d1
    dsimp only
    rw [va_up_ne _ _ cx, va_up_ne _ _ cx, if_neg cx, if_pos d3]
    exact ⟨(hnd x).mpr (Or.inl d1), d2, rfl, d4⟩
/-- Integers that are kept -/
def kCa (Γ : Nat → Option Nat) (h : xH) : Prop := ∃ ca, Γ 13 = some ca ∧ yA h 7 ca ∧ yln h ca = 256 ∧ ∀ i, i < 256 → ∃ o, ylr h 7 ca i = some o ∧ yO h 15 o ∧ yi h 15 0 o = Int32.ofNat i - Int32.ofNat 128
theorem ytk_7 : ytk 7 = 4 := by decide
section KBK
variable {Γ : Nat → Option Nat} {h : xH} {n m k y : Nat} {e ps : Nat → Nat} {V : Nat → Nat}
theorem k_valueOf {v : Nat} (hc : kCa Γ h) (hb : xbd n h) (hv : v < 2147483000) : ∃ ka h' dc ds, fJ17_valueOf (Int32.ofNat v) Γ h n = some (.inl (some ka), h', dc, ds) ∧ dc ≤ 1 ∧ ds ≤ 1 ∧ hsub h h' ∧ xbd (n + dc) h' ∧ yO h' 15 ka ∧ yi h' 15 0 ka = Int32.ofNat v := by
  have c1 : ¬ Int32.ofNat v < (-128 : Int32) := by
    rw [Int32.lt_iff_toInt_lt, i_toInt (by omega)]
    have : (-128 : Int32).toInt = -128 := by decide
    omega
  have i127 : (127 : Int32) = Int32.ofNat 127 := rfl
  have i128 : (128 : Int32) = Int32.ofNat 128 := rfl
  unfold fJ17_valueOf
  rw [if_neg c1, i127]
  by_cases c2 : 127 < v
  · rw [if_pos ((i_lt (by decide) (by omega)).mpr c2)]
    refine ⟨n, xupd h n (true, .inr (15, [.int (Int32.ofNat v)])), 1, 1, ?_, by omega, by omega, hsub_up (hb n (Nat.le_refl _)), xbd_up1 hb, ⟨true, by unfold yhd; rw [up_self]; rfl⟩, by unfold yi yv; rw [up_self]; rfl⟩
    unfold fJ17_valueOf_p23
    rw [x_bc (show xnew 15 [.int 0] 1 Γ h n = some (.inl n, xupd h n (true, .inr (15, [.int 0])), 1, 1) from rfl)]
    unfold fJ17_init fJ16_init__J17
    have e1 := o1_p (Γ := Γ) (h := h) (n := n + 1) (a := n) (ci := 15) (k := 0) (fs := [.int 0]) (v := .int (Int32.ofNat v)) (by simp)
    have e2 : (xbind (xpure ()) fun (_ : Unit) => xbind (xput 15 0 (some n) (.int (Int32.ofNat v))) fun _ => xpure ()) Γ (xupd h n (true, .inr (15, [.int 0]))) (n + 1) = some (.inl (), xupd h n (true, .inr (15, [.int (Int32.ofNat v)])), 0, 0) := by
      rw [x_b1 (show xpure () Γ (xupd h n (true, .inr (15, [.int 0]))) (n + 1) = some (.inl (), xupd h n (true, .inr (15, [.int 0])), 0, 0) from rfl), x_b1 e1]
      rfl
    rw [x_b1 e2]
    rfl
  · rw [if_neg (fun z => c2 ((i_lt (by decide) (by omega)).mp z))]
    obtain ⟨ca, h1, h2, h3, h4⟩ := hc
    obtain ⟨o, o1, o2, o3⟩ := h4 (v + 128) (by omega)
    refine ⟨o, h, 0, 0, ?_, by omega, by omega, hsub.rfl, hb, o2, ?_⟩
    · have e1 : xldR (some ca) (Int32.ofNat (v + 128)) Γ h n = some (.inl (some o), h, 0, 0) := by
        rw [e_ldR h2 ytk_7 (by omega) (yin_of (by omega) (by omega)), i_nat (by omega), o1]
      have e0 : xcon 13 Γ h n = some (.inl (some ca), h, 0, 0) := by unfold xcon; rw [h1]
      rw [x_b1 e0, i128, i_add, x_b1 e1]
      rfl
    · rw [o3, i_sub (by omega), Nat.add_sub_cancel]
theorem k_cmp {a b : Nat} (ha : a < 2147483648) (hb : b < 2147483648) : fJ17_compare (Int32.ofNat a) (Int32.ofNat b) Γ h n = some (.inl (if b < a then Int32.ofNat 1 else if a = b then Int32.ofNat 0 else -Int32.ofNat 1), h, 0, 0) := by
  unfold fJ17_compare
  by_cases c1 : b ≤ a
  · rw [if_pos ((i_le hb ha).mpr c1)]
    by_cases c2 : a = b
    · rw [if_pos (by rw [c2]), if_neg (by omega), if_pos c2]; rfl
    · rw [if_neg (fun z => c2 ((i_eq ha hb).mp z)), if_pos (by omega)]; rfl
  · rw [if_neg (fun z => c1 ((i_le hb ha).mp z)), if_neg (by omega), if_neg (by omega)]; rfl
theorem k_cmpTo {ka kb a b : Nat} (h1 : yO h 15 ka) (v1 : yi h 15 0 ka = Int32.ofNat a) (h2 : yO h 15 kb) (v2 : yi h 15 0 kb = Int32.ofNat b) (ha : a < 2147483648) (hb : b < 2147483648) : xsel (some ka) [(15, fun z => fJ17_compareTo z (some kb))] Γ h n = some (.inl (if b < a then Int32.ofNat 1 else if a = b then Int32.ofNat 0 else -Int32.ofNat 1), h, 0, 0) := by
  have g1 := e_gI (Γ := Γ) (n := n) h1 kn15_0
  have g2 := e_gI (Γ := Γ) (n := n) h2 kn15_0
  rw [v1] at g1
  rw [v2] at g2
  have e2 : fJ17_compareTo_2 ka (some kb) Γ h n = some (.inl (if b < a then Int32.ofNat 1 else if a = b then Int32.ofNat 0 else -Int32.ofNat 1), h, 0, 0) := by
    unfold fJ17_compareTo_2
    rw [x_b1 g1, x_b1 g2, x_b1 (k_cmp ha hb)]
    rfl
  rw [e_sel h1]
  unfold fJ17_compareTo
  rw [x_b1 (k_cst (ok := fun c => c == 15) h2 rfl), x_b1 ((e_sel h1).trans e2)]
  rfl
/-- keys and values of the entries -/
def kKV (h : xH) (k y : Nat) (e V : Nat → Nat) : Prop := ∀ i, i < k → (∃ ka, yr h 36 0 (e i) = some ka ∧ yO h 15 ka ∧ yi h 15 0 ka = Int32.ofNat (y + i)) ∧ yr h 36 1 (e i) = some (V i)
/-- the book m holds the values V 0 .. V (k - 1) under the keys y .. y + k - 1 -/
def kBk (h : xH) (m k y : Nat) (e ps V : Nat → Nat) : Prop := (∃ l r p rt lo hi, tS h m k e ps l r p rt lo hi) ∧ yr h 16 2 m = none ∧ yi h 16 4 m = Int32.ofNat k ∧ kKV h k y e V ∧ (∀ s, yr h 16 6 m = some s → yO h 32 s ∧ yr h 32 0 s = some m) ∧ (∀ s, yr h 16 1 m = some s → yO h 11 s ∧ yr h 11 0 s = some m) ∧ k ≤ 10000 ∧ y + k < 2147480000
end KBK
