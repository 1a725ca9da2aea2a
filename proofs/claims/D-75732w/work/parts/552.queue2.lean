/-! part 552: a PriorityQueue: an item sinks -/
theorem i_hlf : ∀ c : Nat, c < 13 → ((Int32.ofNat c).toUInt32 >>> ((1 : Int32).toUInt32 &&& Int32.toUInt32 31)).toInt32 = Int32.ofNat (c / 2) := by decide
theorem i_shl : ∀ k : Nat, k < 13 → (Int32.ofNat k <<< ((1 : Int32) &&& 31)) + (1 : Int32) = Int32.ofNat (2 * k + 1) := by decide
section KQ2
variable {Γ : Nat → Option Nat} {h : xH} {n qa cm : Nat} {f : Nat → Option Nat} {G : Nat → Prop} {κ : Nat → Nat}
theorem k_sd88 (C : kCm Γ h qa cm G κ) {c k : Nat} {q : Nat → Nat} {s : Option Nat} (hc : c ≤ 12) (hk : k < c) (hG : ∀ i, i < c → G (q i)) : fJ45_siftDownUsingComparator_p88 (Int32.ofNat k) (some (q k)) (some qa) Γ (kQA h qa (va_up (kF q c) k s)) n = some (.inl (), kQA h qa (kF q c), 0, 0) := by
  have w := kqa_st (Γ := Γ) (n := n) (i := k) (v := some (q k)) (f := va_up (kF q c) k s) (by omega) (C.2 _ _ (hG k hk))
  rw [kF_end hk] at w
  unfold fJ45_siftDownUsingComparator_p88
  rw [x_b1 w]
  rfl
theorem k_sd61 (C : kCm Γ h qa cm G κ) {c k j : Nat} {q : Nat → Nat} {s : Option Nat} {K : Int32 → Option Nat → Option Nat → Int32 → Option Nat → Int32 → xM Unit} {hf : Int32} (hc : c ≤ 12) (hk : k < c) (hj : j < c) (hn : k ≠ j) (hG : ∀ i, i < c → G (q i)) :
    fJ45_siftDownUsingComparator_p61 K (Int32.ofNat k) (some (q k)) (some qa) (Int32.ofNat c) (some cm) hf (Int32.ofNat j) (some (q j)) Γ (kQA h qa (va_up (kF q c) k s)) n = if κ (q j) < κ (q k) then K (Int32.ofNat j) (some (q k)) (some qa) (Int32.ofNat c) (some cm) hf Γ (kQA h qa (va_up (kF (qSw q k j) c) j (some (q j)))) n else some (.inl (), kQA h qa (kF q c), 0, 0) := by
  have cp := C.1 (va_up (kF q c) k s) n _ _ (hG k hk) (hG j hj)
  have w := kqa_st (Γ := Γ) (n := n) (i := k) (v := some (q j)) (f := va_up (kF q c) k s) (by omega) (C.2 _ _ (hG j hj))
  rw [kF_sw hk hj hn] at w
  unfold fJ45_siftDownUsingComparator_p61
  rw [x_b1 cp]
  by_cases d : κ (q j) < κ (q k)
  · rw [if_pos d, if_neg (show ¬ κ (q k) < κ (q j) by omega), if_pos d, if_pos (by decide), x_b1 w]
  · by_cases d2 : κ (q k) < κ (q j)
    · rw [if_pos d2, if_neg (by decide), k_sd88 C hc hk hG, if_neg d]
    · rw [if_neg d2, if_neg d, if_neg (by decide), k_sd88 C hc hk hG, if_neg d]
/-- a step of sinking keeps the order elsewhere -/
theorem qH_step {q : Nat → Nat} {c k j : Nat} (hk : k < c) (hj : j < c) (jk : (j - 1) / 2 = k) (j0 : 0 < j) (d : κ (q j) < κ (q k)) (hs : ∀ i, 0 < i → i < c → (i - 1) / 2 = k → κ (q j) ≤ κ (q i))
    (h1 : ∀ i, 0 < i → i < c → (i - 1) / 2 ≠ k → κ (q ((i - 1) / 2)) ≤ κ (q i)) (h2 : ∀ i, 0 < i → i < c → (i - 1) / 2 = k → 0 < k → κ (q ((k - 1) / 2)) ≤ κ (q i)) :
    (∀ i, 0 < i → i < c → (i - 1) / 2 ≠ j → κ (qSw q k j ((i - 1) / 2)) ≤ κ (qSw q k j i)) ∧ (∀ i, 0 < i → i < c → (i - 1) / 2 = j → 0 < j → κ (qSw q k j ((j - 1) / 2)) ≤ κ (qSw q k j i)) := by
  have kj : k ≠ j := by omega
  constructor
  · intro i i0 ic ip
    by_cases t1 : i = k
    · rw [t1, qSw_i, qSw_ne (by omega) (by omega)]
      exact h2 j j0 hj jk (by omega)
    · by_cases t2 : i = j
      · rw [t2, qSw_j, jk, qSw_i]
        omega
      · rw [qSw_ne t1 t2]
        by_cases t3 : (i - 1) / 2 = k
        · rw [t3, qSw_i]
          exact hs i i0 ic t3
        · rw [qSw_ne t3 ip]
          exact h1 i i0 ic t3
  · intro i i0 ic ip _
    rw [jk, qSw_i, qSw_ne (show i ≠ k by omega) (show i ≠ j by omega)]
    have := h1 i i0 ic (by omega)
    rwa [ip] at this
theorem k_siftDn (C : kCm Γ h qa cm G κ) {c : Nat} (hc : c ≤ 12) : ∀ (d k : Nat) (fu : Nat) (q : Nat → Nat) (s : Option Nat), k < c → c - k ≤ d → d < fu → (∀ i, i < c → G (q i)) → (∀ i, 0 < i → i < c → (i - 1) / 2 ≠ k → κ (q ((i - 1) / 2)) ≤ κ (q i)) → (∀ i, 0 < i → i < c → (i - 1) / 2 = k → 0 < k → κ (q ((k - 1) / 2)) ≤ κ (q i)) →
    ∃ q', fJ45_siftDownUsingComparator_p5 fu (Int32.ofNat k) (some (q k)) (some qa) (Int32.ofNat c) (some cm) (Int32.ofNat (c / 2)) Γ (kQA h qa (va_up (kF q c) k s)) n = some (.inl (), kQA h qa (kF q' c), 0, 0) ∧ qH κ q' c ∧ (∀ a, qS q' c a ↔ qS q c a) ∧ (qI q c → qI q' c) := by
  intro d
  induction d with
  | zero => intro k fu q s hk hd; omega
  | succ d ih =>
    intro k fu q s hk hd hf hG h1 h2
    obtain ⟨fu, rfl⟩ : ∃ g, fu = g + 1 := ⟨fu - 1, by omega⟩
    by_cases c0 : c / 2 ≤ k
    · refine ⟨q, ?_, fun i a b => h1 i a b (by omega), fun _ => Iff.rfl, fun z => z⟩
      rw [fJ45_siftDownUsingComparator_p5, if_pos (by rw [i_le (by omega) (by omega)]; exact c0), k_sd88 C hc hk hG]
    · have ldx : ∀ i, i < c → i ≠ k → xldR (some qa) (Int32.ofNat i) Γ (kQA h qa (va_up (kF q c) k s)) n = some (.inl (some (q i)), kQA h qa (va_up (kF q c) k s), 0, 0) := by
        intro i hi ik
        rw [kqa_ld (by omega), va_ap, if_neg ik]
        unfold kF
        rw [if_pos hi]
      have step : ∀ j, j < c → (j - 1) / 2 = k → 0 < j → (∀ i, 0 < i → i < c → (i - 1) / 2 = k → κ (q j) ≤ κ (q i)) → ∃ q', fJ45_siftDownUsingComparator_p61 (fJ45_siftDownUsingComparator_p5 fu) (Int32.ofNat k) (some (q k)) (some qa) (Int32.ofNat c) (some cm) (Int32.ofNat (c / 2)) (Int32.ofNat j) (some (q j)) Γ (kQA h qa (va_up (kF q c) k s)) n = some (.inl (), kQA h qa (kF q' c), 0, 0) ∧ qH κ q' c ∧ (∀ a, qS q' c a ↔ qS q c a) ∧ (qI q c → qI q' c) := by
        intro j hj jk j0 hs
        rw [k_sd61 C hc hk hj (by omega) hG]
        by_cases dd : κ (q j) < κ (q k)
        · obtain ⟨s1, s2⟩ := qH_step hk hj jk j0 dd hs h1 h2
          have ih' := ih j fu (qSw q k j) (some (q j)) hj (by omega) (by omega) (fun i hi => by
            by_cases t1 : i = k
            · rw [t1, qSw_i]; exact hG _ hj
            · by_cases t2 : i = j
              · rw [t2, qSw_j]; exact hG _ hk
              · rw [qSw_ne t1 t2]; exact hG _ hi) s1 s2
          rw [qSw_j] at ih'
          obtain ⟨q', e1, e2, e3, e4⟩ := ih'
          exact ⟨q', by rw [if_pos dd]; exact e1, e2, fun a => (e3 a).trans (qS_sw hk hj), fun z => e4 (qI_sw hk hj z)⟩
        · refine ⟨q, by rw [if_neg dd], fun i a b => ?_, fun _ => Iff.rfl, fun z => z⟩
          by_cases t1 : (i - 1) / 2 = k
          · rw [t1]
            have := hs i a b t1
            omega
          · exact h1 i a b t1
      have lc := ldx (2 * k + 1) (by omega) (by omega)
      rw [fJ45_siftDownUsingComparator_p5, if_neg (by rw [i_le (by omega) (by omega)]; exact c0)]
      dsimp only [xlet]
      rw [i_shl k (by omega), x_b1 lc, show Int32.ofNat (2 * k + 1) + (1 : Int32) = Int32.ofNat (2 * k + 2) from i_addl 1 (2 * k + 1)]
      by_cases c1 : c ≤ 2 * k + 2
      · rw [if_pos (by rw [i_le (by omega) (by omega)]; exact c1)]
        exact step (2 * k + 1) (by omega) (by omega) (by omega) (fun i a b e => by rw [show i = 2 * k + 1 by omega]; exact Nat.le_refl _)
      · have lr := ldx (2 * k + 2) (by omega) (by omega)
        have cp := C.1 (va_up (kF q c) k s) n _ _ (hG (2 * k + 1) (by omega)) (hG (2 * k + 2) (by omega))
        rw [if_neg (by rw [i_le (by omega) (by omega)]; exact c1), x_b1 lr, x_b1 cp]
        by_cases c2 : κ (q (2 * k + 2)) < κ (q (2 * k + 1))
        · rw [if_neg (show ¬ κ (q (2 * k + 1)) < κ (q (2 * k + 2)) by omega), if_pos c2, if_neg (by decide), x_b1 lr]
          exact step (2 * k + 2) (by omega) (by omega) (by omega) (fun i a b e => by
            rcases (show i = 2 * k + 1 ∨ i = 2 * k + 2 by omega) with z | z
            · rw [z]; omega
            · rw [z]; exact Nat.le_refl _)
        · have hle : (if κ (q (2 * k + 1)) < κ (q (2 * k + 2)) then (-1 : Int32) else if κ (q (2 * k + 2)) < κ (q (2 * k + 1)) then 1 else 0) ≤ 0 := by
            rw [if_neg c2]
            split <;> decide
          rw [if_pos hle]
          exact step (2 * k + 1) (by omega) (by omega) (by omega) (fun i a b e => by
            rcases (show i = 2 * k + 1 ∨ i = 2 * k + 2 by omega) with z | z
            · rw [z]; exact Nat.le_refl _
            · rw [z]; omega)
theorem qH_min {q : Nat → Nat} {c : Nat} (H : qH κ q c) : ∀ i, i < c → κ (q 0) ≤ κ (q i) := by
  intro i
  induction i using Nat.strongRecOn with
  | ind i ih =>
    intro hi
    by_cases i0 : i = 0
    · rw [i0]; exact Nat.le_refl _
    · exact Nat.le_trans (ih ((i - 1) / 2) (by omega) (by omega)) (H i (by omega) hi)
end KQ2
