/-! part 553: a PriorityQueue as an overlay: add, poll, peek, isEmpty -/
def kQc (qa cm c : Nat) (mc : Int32) : xAC := (true, .inr (33, [.ref qa, .int (Int32.ofNat c), .ref cm, .int mc]))
def kQu (h : xH) (qu qa cm c : Nat) (mc : Int32) (f : Nat → Option Nat) : xH := kQA (xupd h qu (kQc qa cm c mc)) qa f
def kCq (Γ : Nat → Option Nat) (h : xH) (qu qa cm : Nat) (G : Nat → Prop) (κ : Nat → Nat) : Prop := ∀ c mc, kCm Γ (xupd h qu (kQc qa cm c mc)) qa cm G κ
section KQ3
variable {Γ : Nat → Option Nat} {h : xH} {n qu qa cm c : Nat} {mc : Int32} {f : Nat → Option Nat} {G : Nat → Prop} {κ q : Nat → Nat}
theorem kq_at (d : qu ≠ qa) : kQu h qu qa cm c mc f qu = some (kQc qa cm c mc) := by unfold kQu kQA; rw [up_ne d, up_self]
theorem kq_o {a : Nat} (h1 : a ≠ qu) (h2 : a ≠ qa) : kQu h qu qa cm c mc f a = h a := by unfold kQu kQA; rw [up_ne h2, up_ne h1]
theorem kq_obj (d : qu ≠ qa) : xobj (kQu h qu qa cm c mc f) (some qu) = some (qu, 33, [.ref qa, .int (Int32.ofNat c), .ref cm, .int mc]) := by unfold xobj; simp only [kq_at d]; rfl
theorem kq_sel (d : qu ≠ qa) {α : Type} {g : Nat → xM α} : xsel (some qu) [(33, g)] Γ (kQu h qu qa cm c mc f) n = g qu Γ (kQu h qu qa cm c mc f) n := by
  unfold xsel
  rw [kq_obj d]
  rfl
theorem kq_g0 (d : qu ≠ qa) : xgR 33 0 (some qu) Γ (kQu h qu qa cm c mc f) n = some (.inl (some qa), kQu h qu qa cm c mc f, 0, 0) := by unfold xgR xget; rw [kq_obj d]; rfl
theorem kq_g1 (d : qu ≠ qa) : xgI 33 1 (some qu) Γ (kQu h qu qa cm c mc f) n = some (.inl (Int32.ofNat c), kQu h qu qa cm c mc f, 0, 0) := by unfold xgI xget; rw [kq_obj d]; rfl
theorem kq_g2 (d : qu ≠ qa) : xgR 33 2 (some qu) Γ (kQu h qu qa cm c mc f) n = some (.inl (some cm), kQu h qu qa cm c mc f, 0, 0) := by unfold xgR xget; rw [kq_obj d]; rfl
theorem kq_g3 (d : qu ≠ qa) : xgI 33 3 (some qu) Γ (kQu h qu qa cm c mc f) n = some (.inl mc, kQu h qu qa cm c mc f, 0, 0) := by unfold xgI xget; rw [kq_obj d]; rfl
theorem kq_p1 (d : qu ≠ qa) {e : Nat} : xput 33 1 (some qu) (.int (Int32.ofNat e)) Γ (kQu h qu qa cm c mc f) n = some (.inl (), kQu h qu qa cm e mc f, 0, 0) := by
  unfold xput
  simp only [kq_at d, kQc]
  rw [if_pos ⟨trivial, by simp⟩]
  unfold kQu kQA
  rw [up_comm d.symm, up_up]
  rfl
theorem kq_p3 (d : qu ≠ qa) {v : Int32} : xput 33 3 (some qu) (.int v) Γ (kQu h qu qa cm c mc f) n = some (.inl (), kQu h qu qa cm c v f, 0, 0) := by
  unfold xput
  simp only [kq_at d, kQc]
  rw [if_pos ⟨trivial, by simp⟩]
  unfold kQu kQA
  rw [up_comm d.symm, up_up]
  rfl
theorem kq_len : xlen (some qa) Γ (kQu h qu qa cm c mc f) n = some (.inl (Int32.ofNat 12), kQu h qu qa cm c mc f, 0, 0) := by
  unfold xlen xarr kQu kQA
  simp only [up_self]
theorem kF_0 : kF q 0 = fun _ => none := by
  funext i
  unfold kF
  rw [if_neg (by omega)]
theorem k_qEmpty (d : qu ≠ qa) (hc : c ≤ 12) : xsel (some qu) [(33, fun z => fJ0_isEmpty__J45 z)] Γ (kQu h qu qa cm c mc f) n = some (.inl (if c = 0 then 1 else 0), kQu h qu qa cm c mc f, 0, 0) := by
  have i0 : (0 : Int32) = Int32.ofNat 0 := rfl
  have e1 : xsel (some qu) [(33, fun z => fJ45_size z)] Γ (kQu h qu qa cm c mc f) n = some (.inl (Int32.ofNat c), kQu h qu qa cm c mc f, 0, 0) := by
    rw [kq_sel d]
    unfold fJ45_size
    rw [x_b1 (kq_g1 d)]
    rfl
  rw [kq_sel d]
  unfold fJ0_isEmpty__J45
  rw [x_b1 e1]
  by_cases c0 : c = 0
  · rw [if_pos c0, if_pos (by rw [c0]; rfl)]; rfl
  · rw [if_neg c0, if_neg (by rw [i0, i_eq (by omega) (by omega)]; exact c0)]; rfl
theorem k_qPeek (d : qu ≠ qa) : xsel (some qu) [(33, fun z => fJ45_peek z)] Γ (kQu h qu qa cm c mc f) n = some (.inl (f 0), kQu h qu qa cm c mc f, 0, 0) := by
  have i0 : (0 : Int32) = Int32.ofNat 0 := rfl
  have ld : xldR (some qa) (0 : Int32) Γ (kQu h qu qa cm c mc f) n = some (.inl (f 0), kQu h qu qa cm c mc f, 0, 0) := kqa_ld (i := 0) (by omega)
  rw [kq_sel d]
  unfold fJ45_peek
  rw [x_b1 (kq_g0 d), x_b1 ld]
  rfl
theorem k_qPoll0 (d : qu ≠ qa) (h0 : f 0 = none) : xsel (some qu) [(33, fun z => fJ45_poll z)] Γ (kQu h qu qa cm c mc f) n = some (.inl none, kQu h qu qa cm c mc f, 0, 0) := by
  have ld : xldR (some qa) (0 : Int32) Γ (kQu h qu qa cm c mc f) n = some (.inl (f 0), kQu h qu qa cm c mc f, 0, 0) := kqa_ld (i := 0) (by omega)
  rw [h0] at ld
  rw [kq_sel d]
  unfold fJ45_poll
  rw [x_b1 (kq_g0 d), x_b1 ld, if_pos rfl]
  rfl
theorem k_qPoll (C : kCq Γ h qu qa cm G κ) (d : qu ≠ qa) (hc : c + 1 ≤ 12) (hG : ∀ i, i < c + 1 → G (q i)) (H : qH κ q (c + 1)) (I : qI q (c + 1)) : ∃ q' mc', xsel (some qu) [(33, fun z => fJ45_poll z)] Γ (kQu h qu qa cm (c + 1) mc (kF q (c + 1))) n = some (.inl (some (q 0)), kQu h qu qa cm c mc' (kF q' c), 0, 0) ∧ qH κ q' c ∧ qI q' c ∧ (∀ a, qS q' c a ↔ qS q (c + 1) a ∧ a ≠ q 0) ∧ ∀ a, qS q (c + 1) a → κ (q 0) ≤ κ a := by
  have i1 : (1 : Int32) = Int32.ofNat 1 := rfl
  have i0 : (0 : Int32) = Int32.ofNat 0 := rfl
  have f0 : kF q (c + 1) 0 = some (q 0) := if_pos (by omega)
  have fc : kF q (c + 1) c = some (q c) := if_pos (by omega)
  have ld : xldR (some qa) (0 : Int32) Γ (kQu h qu qa cm (c + 1) mc (kF q (c + 1))) n = some (.inl (some (q 0)), kQu h qu qa cm (c + 1) mc (kF q (c + 1)), 0, 0) := by rw [← f0]; exact kqa_ld (i := 0) (by omega)
  have ld2 : xldR (some qa) (Int32.ofNat c) Γ (kQu h qu qa cm c (mc + 1) (kF q (c + 1))) n = some (.inl (some (q c)), kQu h qu qa cm c (mc + 1) (kF q (c + 1)), 0, 0) := by rw [← fc]; exact kqa_ld (i := c) (by omega)
  have st : xstR 5 xokObj (some qa) (Int32.ofNat c) none Γ (kQu h qu qa cm c (mc + 1) (kF q (c + 1))) n = some (.inl (), kQu h qu qa cm c (mc + 1) (va_up (kF q (c + 1)) c none), 0, 0) := kqa_st (i := c) (by omega) rfl
  have fu : va_up (kF q (c + 1)) c none = kF q c := by
    funext i
    rw [va_ap]
    unfold kF
    by_cases e : i = c
    · rw [if_pos e, if_neg (by omega)]
    · rw [if_neg e]
      by_cases e2 : i < c
      · rw [if_pos (by omega), if_pos e2]
      · rw [if_neg (by omega), if_neg e2]
  rw [fu] at st
  have mn : ∀ a, qS q (c + 1) a → κ (q 0) ≤ κ a := by
    rintro a ⟨i, hi, rfl⟩
    exact qH_min H i hi
  by_cases c0 : c = 0
  · subst c0
    refine ⟨q, mc + 1, ?_, fun i a b => absurd b (by omega), fun i j a => absurd a (by omega), fun a => ⟨fun ⟨i, hi, _⟩ => absurd hi (by omega), fun ⟨⟨i, hi, e⟩, ne⟩ => absurd e.symm (by rw [show i = 0 by omega]; exact ne)⟩, mn⟩
    rw [kq_sel d]
    unfold fJ45_poll
    rw [x_b1 (kq_g0 d), x_b1 ld, if_neg (fun z => nomatch z), x_b1 (kq_g3 d), x_b1 (kq_p3 d), x_b1 (kq_g1 d)]
    dsimp only [xlet]
    rw [i1, i_sub (by omega), ← i1, show 0 + 1 - 1 = 0 from rfl, x_b1 (kq_p1 d), x_b1 ld2, x_b1 st, if_pos (by decide)]
    rfl
  · have q0 : ∀ i, i < c → va_up q 0 (q c) i = if i = 0 then q c else q i := fun i _ => va_ap _ _ _ _
    have vq : va_up q 0 (q c) 0 = q c := by rw [va_ap, if_pos rfl]
    have e0 : kF q c = va_up (kF (va_up q 0 (q c)) c) 0 (some (q 0)) := by
      funext i
      rw [va_ap]
      unfold kF
      by_cases e : i = 0
      · rw [if_pos e, if_pos (by omega), e]
      · rw [if_neg e, va_ap, if_neg e]
    have sd := k_siftDn (n := n) (C c (mc + 1)) (c := c) (by omega) c 0 xFU (va_up q 0 (q c)) (some (q 0)) (by omega) (by omega) (by unfold xFU; omega) (fun i hi => by
        rw [va_ap]
        split
        · exact hG c (by omega)
        · exact hG i (by omega)) (fun i a b e => by
        rw [va_ap, if_neg e, va_ap, if_neg (by omega)]
        exact H i a (by omega)) (fun i a b e z => absurd z (by omega))
    rw [vq, ← e0] at sd
    obtain ⟨q', s1, s2, s3, s4⟩ := sd
    have I0 : qI (va_up q 0 (q c)) c := by
      intro i j hi hj e
      rw [va_ap, va_ap] at e
      by_cases t1 : i = 0
      · by_cases t2 : j = 0
        · omega
        · rw [if_pos t1, if_neg t2] at e
          have := I c j (by omega) (by omega) e
          omega
      · by_cases t2 : j = 0
        · rw [if_neg t1, if_pos t2] at e
          have := I i c (by omega) (by omega) e
          omega
        · rw [if_neg t1, if_neg t2] at e
          exact I i j (by omega) (by omega) e
    refine ⟨q', mc + 1, ?_, s2, s4 I0, fun a => (s3 a).trans ⟨?_, ?_⟩, mn⟩
    · have s1' : fJ45_siftDownUsingComparator (0 : Int32) (some (q c)) (some qa) (Int32.ofNat c) (some cm) Γ (kQu h qu qa cm c (mc + 1) (kF q c)) n = some (.inl (), kQu h qu qa cm c (mc + 1) (kF q' c), 0, 0) := by
        unfold fJ45_siftDownUsingComparator
        dsimp only [xlet]
        rw [i_hlf c (by omega)]
        exact s1
      rw [kq_sel d]
      unfold fJ45_poll
      rw [x_b1 (kq_g0 d), x_b1 ld, if_neg (fun z => nomatch z), x_b1 (kq_g3 d), x_b1 (kq_p3 d), x_b1 (kq_g1 d)]
      dsimp only [xlet]
      rw [show Int32.ofNat (c + 1) - (1 : Int32) = Int32.ofNat c from (i_sub (a := c + 1) (b := 1) (by omega)).trans (by rw [Nat.add_sub_cancel]), x_b1 (kq_p1 d), x_b1 ld2, x_b1 st, if_neg (by rw [i0, i_le (by omega) (by omega)]; omega), x_b1 (kq_g2 d), if_neg (fun z => nomatch z), x_b1 s1']
      rfl
    · rintro ⟨i, hi, e⟩
      rw [va_ap] at e
      by_cases t1 : i = 0
      · rw [if_pos t1] at e
        exact ⟨⟨c, by omega, e⟩, fun z => absurd (I c 0 (by omega) (by omega) (e.trans z)) c0⟩
      · rw [if_neg t1] at e
        exact ⟨⟨i, by omega, e⟩, fun z => absurd (I i 0 (by omega) (by omega) (e.trans z)) t1⟩
    · rintro ⟨⟨i, hi, e⟩, ne⟩
      by_cases t1 : i = c
      · exact ⟨0, by omega, by rw [vq, ← t1]; exact e⟩
      · have t2 : i ≠ 0 := fun z => ne (by rw [← e, z])
        exact ⟨i, by omega, by rw [va_ap, if_neg t2]; exact e⟩
theorem k_qAdd {v : Nat} (C : kCq Γ h qu qa cm G κ) (d : qu ≠ qa) (hc : c < 12) (hG : ∀ i, i < c → G (q i)) (hv : G v) (H : qH κ q c) (I : qI q c) (nv : ¬ qS q c v) : ∃ q' mc', xsel (some qu) [(33, fun z => fJ45_add z (some v))] Γ (kQu h qu qa cm c mc (kF q c)) n = some (.inl 1, kQu h qu qa cm (c + 1) mc' (kF q' (c + 1)), 0, 0) ∧ qH κ q' (c + 1) ∧ qI q' (c + 1) ∧ ∀ a, qS q' (c + 1) a ↔ qS q c a ∨ a = v := by
  have vq : va_up q c v c = v := by rw [va_ap, if_pos rfl]
  have e0 : kF q c = va_up (kF (va_up q c v) (c + 1)) c none := by
    funext i
    rw [va_ap]
    unfold kF
    by_cases e : i = c
    · rw [if_pos e, if_neg (by omega)]
    · rw [if_neg e, va_ap, if_neg e]
      by_cases e2 : i < c
      · rw [if_pos e2, if_pos (by omega)]
      · rw [if_neg e2, if_neg (by omega)]
  have su := k_siftUp (n := n) (C c (mc + 1)) (c := c + 1) (by omega) c xFU (va_up q c v) none (by omega) (by unfold xFU; omega) (fun i hi => by
      rw [va_ap]
      split
      · exact hv
      · exact hG i (by omega)) (fun i a b e => by
      rw [va_ap, if_neg (by omega), va_ap, if_neg e]
      exact H i a (by omega)) (fun i a b e z => absurd e (by omega))
  rw [vq, ← e0] at su
  obtain ⟨q', s1, s2, s3, s4⟩ := su
  have I0 : qI (va_up q c v) (c + 1) := by
    intro i j hi hj e
    rw [va_ap, va_ap] at e
    by_cases t1 : i = c
    · by_cases t2 : j = c
      · omega
      · rw [if_pos t1, if_neg t2] at e
        exact absurd ⟨j, by omega, e.symm⟩ nv
    · by_cases t2 : j = c
      · rw [if_neg t1, if_pos t2] at e
        exact absurd ⟨i, by omega, e⟩ nv
      · rw [if_neg t1, if_neg t2] at e
        exact I i j (by omega) (by omega) e
  refine ⟨q', mc + 1, ?_, s2, s4 I0, fun a => (s3 a).trans ⟨?_, ?_⟩⟩
  · have s1' : xsel (some qu) [(33, fun z => fJ45_siftUp z (Int32.ofNat c) (some v))] Γ (kQu h qu qa cm c (mc + 1) (kF q c)) n = some (.inl (), kQu h qu qa cm c (mc + 1) (kF q' (c + 1)), 0, 0) := by
      have s0 : fJ45_siftUpUsingComparator (Int32.ofNat c) (some v) (some qa) (some cm) Γ (kQu h qu qa cm c (mc + 1) (kF q c)) n = some (.inl (), kQu h qu qa cm c (mc + 1) (kF q' (c + 1)), 0, 0) := s1
      rw [kq_sel d]
      unfold fJ45_siftUp
      rw [x_b1 (kq_g2 d), if_neg (fun z => nomatch z), x_b1 (kq_g0 d), x_b1 (kq_g2 d), x_b1 s0]
      rfl
    have o43 : fJ45_offer_p43 qu (some v) (Int32.ofNat c) Γ (kQu h qu qa cm c (mc + 1) (kF q c)) n = some (.inl 1, kQu h qu qa cm (c + 1) (mc + 1) (kF q' (c + 1)), 0, 0) := by
      unfold fJ45_offer_p43
      rw [x_b1 s1', show Int32.ofNat c + (1 : Int32) = Int32.ofNat (c + 1) from i_addl 1 c, x_b1 (kq_p1 d)]
      rfl
    have o1 : xsel (some qu) [(33, fun z => fJ45_offer z (some v))] Γ (kQu h qu qa cm c mc (kF q c)) n = some (.inl 1, kQu h qu qa cm (c + 1) (mc + 1) (kF q' (c + 1)), 0, 0) := by
      rw [kq_sel d]
      unfold fJ45_offer
      rw [if_neg (fun z => nomatch z), x_b1 (kq_g3 d), x_b1 (kq_p3 d), x_b1 (kq_g1 d), x_b1 (kq_g0 d), x_b1 kq_len, if_pos (by rw [i_lt (by omega) (by omega)]; exact hc), o43]
    rw [kq_sel d]
    unfold fJ45_add
    rw [x_b1 o1]
    rfl
  · rintro ⟨i, hi, e⟩
    rw [va_ap] at e
    by_cases t1 : i = c
    · rw [if_pos t1] at e
      exact Or.inr e.symm
    · rw [if_neg t1] at e
      exact Or.inl ⟨i, by omega, e⟩
  · rintro (⟨i, hi, e⟩ | e)
    · exact ⟨i, by omega, by rw [va_ap, if_neg (by omega)]; exact e⟩
    · exact ⟨c, by omega, by rw [vq, e]⟩
end KQ3
