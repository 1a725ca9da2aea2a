/-! part 551: a PriorityQueue: its row, an item is put in -/
/-- the row qa of a queue, its contents f, over the heap h -/
def kQA (h : xH) (qa : Nat) (f : Nat → Option Nat) : xH := xupd h qa (true, .inl (5, 12, .inr (.inr (.inr (.inr f)))))
def kF (q : Nat → Nat) (c : Nat) : Nat → Option Nat := fun i => if i < c then some (q i) else none
def qSw (q : Nat → Nat) (i j : Nat) : Nat → Nat := fun t => if t = i then q j else if t = j then q i else q t
def qS (q : Nat → Nat) (c : Nat) (a : Nat) : Prop := ∃ i, i < c ∧ q i = a
def qI (q : Nat → Nat) (c : Nat) : Prop := ∀ i j, i < c → j < c → q i = q j → i = j
def qH (κ q : Nat → Nat) (c : Nat) : Prop := ∀ i, 0 < i → i < c → κ (q ((i - 1) / 2)) ≤ κ (q i)
/-- items of G are compared by κ, whatever the row holds -/
def kCm (Γ : Nat → Option Nat) (h : xH) (qa cm : Nat) (G : Nat → Prop) (κ : Nat → Nat) : Prop := (∀ f n a b, G a → G b → xsel (some cm) [(34, fun z => fX16_compare z (some a) (some b))] Γ (kQA h qa f) n = some (.inl (if κ a < κ b then -1 else if κ b < κ a then 1 else 0), kQA h qa f, 0, 0)) ∧ ∀ f a, G a → xokR (kQA h qa f) xokObj (some a) = true
section QP
variable {q : Nat → Nat} {c i j a : Nat}
theorem qSw_i : qSw q i j i = q j := if_pos rfl
theorem qSw_j : qSw q i j j = q i := by
  unfold qSw
  by_cases e : j = i
  · rw [if_pos e, e]
  · rw [if_neg e, if_pos rfl]
theorem qSw_ne {t : Nat} (h1 : t ≠ i) (h2 : t ≠ j) : qSw q i j t = q t := by
  unfold qSw
  rw [if_neg h1, if_neg h2]
theorem qS_sw (hi : i < c) (hj : j < c) : qS (qSw q i j) c a ↔ qS q c a := by
  constructor
  · rintro ⟨t, ht, e⟩
    by_cases t1 : t = i
    · subst t1
      rw [qSw_i] at e
      exact ⟨j, hj, e⟩
    · by_cases t2 : t = j
      · subst t2
        rw [qSw_j] at e
        exact ⟨i, hi, e⟩
      · rw [qSw_ne t1 t2] at e
        exact ⟨t, ht, e⟩
  · rintro ⟨t, ht, e⟩
    by_cases t1 : t = i
    · subst t1
      exact ⟨j, hj, by rw [qSw_j]; exact e⟩
    · by_cases t2 : t = j
      · subst t2
        exact ⟨i, hi, by rw [qSw_i]; exact e⟩
      · exact ⟨t, ht, by rw [qSw_ne t1 t2]; exact e⟩
theorem qI_sw (hi : i < c) (hj : j < c) (H : qI q c) : qI (qSw q i j) c := by
  have key : ∀ t, t < c → ∃ u, u < c ∧ qSw q i j t = q u ∧ u = (if t = i then j else if t = j then i else t) := by
    intro t ht
    by_cases t1 : t = i
    · exact ⟨j, hj, by rw [t1, qSw_i], by rw [if_pos t1]⟩
    · by_cases t2 : t = j
      · exact ⟨i, hi, by rw [t2, qSw_j], by rw [if_neg t1, if_pos t2]⟩
      · exact ⟨t, ht, qSw_ne t1 t2, by rw [if_neg t1, if_neg t2]⟩
  intro s t hs ht e
  obtain ⟨u, u1, u2, u3⟩ := key s hs
  obtain ⟨v, v1, v2, v3⟩ := key t ht
  have := H u v u1 v1 (by rw [← u2, ← v2, e])
  rw [u3, v3] at this
  split at this <;> split at this <;> (try split at this) <;> (try split at this) <;> omega
theorem kF_sw {s : Option Nat} (hi : i < c) (hj : j < c) (hn : i ≠ j) : va_up (va_up (kF q c) i s) i (some (q j)) = va_up (kF (qSw q i j) c) j (some (q j)) := by
  funext t
  rw [va_uu, va_ap, va_ap]
  unfold kF
  by_cases t1 : t = i
  · rw [if_pos t1, if_neg (by omega), if_pos (by omega), t1, qSw_i]
  · rw [if_neg t1]
    by_cases t2 : t = j
    · rw [if_pos t2, if_pos (by omega), t2]
    · rw [if_neg t2, qSw_ne t1 t2]
theorem kF_end {s : Option Nat} (hi : i < c) : va_up (va_up (kF q c) i s) i (some (q i)) = kF q c := by
  funext t
  rw [va_uu, va_ap]
  by_cases t1 : t = i
  · rw [if_pos t1]
    unfold kF
    rw [if_pos (by omega), t1]
  · rw [if_neg t1]
end QP
theorem i_par : ∀ k : Nat, k < 12 → ((Int32.ofNat (k + 1) - (1 : Int32)).toUInt32 >>> ((1 : Int32).toUInt32 &&& Int32.toUInt32 31)).toInt32 = Int32.ofNat (k / 2) := by decide
section KQ
variable {Γ : Nat → Option Nat} {h : xH} {n qa cm : Nat} {f : Nat → Option Nat} {G : Nat → Prop} {κ : Nat → Nat}
theorem kqa_ld {i : Nat} (hi : i < 12) : xldR (some qa) (Int32.ofNat i) Γ (kQA h qa f) n = some (.inl (f i), kQA h qa f, 0, 0) := by
  have h1 : i < 2147483648 := by omega
  unfold xldR xarr kQA
  simp only [up_self]
  rw [if_pos ⟨by rw [i_nat h1]; rintro (q | q); exact i_nonneg h1 q; omega, by omega⟩, i_nat h1]
theorem kqa_st {i : Nat} {v : Option Nat} (hi : i < 12) (hv : xokR (kQA h qa f) xokObj v = true) : xstR 5 xokObj (some qa) (Int32.ofNat i) v Γ (kQA h qa f) n = some (.inl (), kQA h qa (va_up f i v), 0, 0) := by
  have h1 : i < 2147483648 := by omega
  have hv' := hv
  unfold kQA at hv'
  unfold xstR kQA
  simp only [up_self]
  rw [if_pos ⟨trivial, by rw [i_nat h1]; rintro (q | q); exact i_nonneg h1 q; omega, hv'⟩, i_nat h1, up_up]
theorem k_siftUp (C : kCm Γ h qa cm G κ) {c : Nat} (hc : c ≤ 12) : ∀ (k : Nat) (fu : Nat) (q : Nat → Nat) (s : Option Nat), k < c → k < fu → (∀ i, i < c → G (q i)) → (∀ i, 0 < i → i < c → i ≠ k → κ (q ((i - 1) / 2)) ≤ κ (q i)) → (∀ i, 0 < i → i < c → (i - 1) / 2 = k → 0 < k → κ (q ((k - 1) / 2)) ≤ κ (q i)) →
    ∃ q', fJ45_siftUpUsingComparator_p0 fu (Int32.ofNat k) (some (q k)) (some qa) (some cm) Γ (kQA h qa (va_up (kF q c) k s)) n = some (.inl (), kQA h qa (kF q' c), 0, 0) ∧ qH κ q' c ∧ (∀ a, qS q' c a ↔ qS q c a) ∧ (qI q c → qI q' c) := by
  have i0 : (0 : Int32) = Int32.ofNat 0 := rfl
  intro k
  induction k using Nat.strongRecOn with
  | ind k ih =>
    intro fu q s hk hf hG h1 h2
    obtain ⟨fu, rfl⟩ : ∃ g, fu = g + 1 := ⟨fu - 1, by omega⟩
    have fin : fJ45_siftUpUsingComparator_p43 (Int32.ofNat k) (some (q k)) (some qa) Γ (kQA h qa (va_up (kF q c) k s)) n = some (.inl (), kQA h qa (kF q c), 0, 0) := by
      have w := kqa_st (Γ := Γ) (n := n) (i := k) (v := some (q k)) (f := va_up (kF q c) k s) (by omega) (C.2 _ _ (hG k hk))
      rw [kF_end hk] at w
      unfold fJ45_siftUpUsingComparator_p43
      rw [x_b1 w]
      rfl
    by_cases k0 : k = 0
    · refine ⟨q, ?_, fun i a b => h1 i a b (by omega), fun _ => Iff.rfl, fun z => z⟩
      rw [fJ45_siftUpUsingComparator_p0, if_pos (by rw [i0, i_le (by omega) (by omega)]; omega), fin]
    · obtain ⟨k', rfl⟩ : ∃ g, k = g + 1 := ⟨k - 1, by omega⟩
      have hp : k' / 2 < c := by omega
      have ld := kqa_ld (Γ := Γ) (h := h) (qa := qa) (n := n) (f := va_up (kF q c) (k' + 1) s) (i := k' / 2) (by omega)
      have fp : va_up (kF q c) (k' + 1) s (k' / 2) = some (q (k' / 2)) := by
        rw [va_ap, if_neg (by omega)]
        unfold kF
        rw [if_pos hp]
      rw [fp] at ld
      have cp := C.1 (va_up (kF q c) (k' + 1) s) n _ _ (hG (k' + 1) hk) (hG (k' / 2) hp)
      rw [fJ45_siftUpUsingComparator_p0, if_neg (by rw [i0, i_le (by omega) (by omega)]; omega)]
      dsimp only [xlet]
      rw [i_par k' (by omega), x_b1 ld, x_b1 cp]
      by_cases d : κ (q (k' + 1)) < κ (q (k' / 2))
      · have w := kqa_st (Γ := Γ) (n := n) (i := k' + 1) (v := some (q (k' / 2))) (f := va_up (kF q c) (k' + 1) s) (by omega) (C.2 _ _ (hG (k' / 2) hp))
        rw [kF_sw hk hp (by omega)] at w
        have ih' := ih (k' / 2) (by omega) fu (qSw q (k' + 1) (k' / 2)) (some (q (k' / 2))) hp (by omega) (fun i hi => by
          by_cases t1 : i = k' + 1
          · rw [t1, qSw_i]; exact hG _ hp
          · by_cases t2 : i = k' / 2
            · rw [t2, qSw_j]; exact hG _ hk
            · rw [qSw_ne t1 t2]; exact hG _ hi) (fun i i0' ic ine => by
          by_cases t1 : i = k' + 1
          · rw [t1, qSw_i, show (k' + 1 - 1) / 2 = k' / 2 by omega, qSw_j]
            omega
          · rw [qSw_ne t1 ine]
            by_cases t3 : (i - 1) / 2 = k' + 1
            · rw [t3, qSw_i]
              have := h2 i i0' ic t3 (by omega)
              rwa [show (k' + 1 - 1) / 2 = k' / 2 by omega] at this
            · by_cases t4 : (i - 1) / 2 = k' / 2
              · rw [t4, qSw_j]
                have := h1 i i0' ic t1
                rw [t4] at this
                omega
              · rw [qSw_ne t3 t4]
                exact h1 i i0' ic t1) (fun i i0' ic ip kp => by
          have a1 := h1 (k' / 2) kp hp (by omega)
          rw [qSw_ne (show (k' / 2 - 1) / 2 ≠ k' + 1 by omega) (by omega)]
          by_cases t1 : i = k' + 1
          · rw [t1, qSw_i]; exact a1
          · rw [qSw_ne t1 (by omega)]
            have := h1 i i0' ic t1
            rw [ip] at this
            omega)
        rw [qSw_j] at ih'
        obtain ⟨q', e1, e2, e3, e4⟩ := ih'
        refine ⟨q', ?_, e2, fun a => (e3 a).trans (qS_sw hk hp), fun z => e4 (qI_sw hk hp z)⟩
        rw [if_pos d, if_pos (by decide), x_b1 w]
        exact e1
      · refine ⟨q, ?_, fun i a b => ?_, fun _ => Iff.rfl, fun z => z⟩
        · rw [if_neg d, if_neg (by split <;> decide), fin]
        · by_cases t1 : i = k' + 1
          · rw [t1, show (k' + 1 - 1) / 2 = k' / 2 by omega]
            omega
          · exact h1 i a b t1
end KQ
