/-! part 536: the views of a book and their iterators -/
section KVW
variable {Γ : Nat → Option Nat} {h : xH} {n m k y : Nat} {e ps V : Nat → Nat} {Z : Nat → Prop}
theorem ysr_ne {j a b : Nat} {v : Option Nat} {c : Nat} (H : yW h c a) (hb : b ≠ a) : ysr h c j a v b = h b := by
  obtain ⟨fs, e, hk⟩ := yhd_o H
  unfold ysr ysv
  rw [e]
  simp only
  split
  · exact up_ne hb
  · rfl
theorem hq_v6 {s : Nat} (H : yW h 16 m) (h1 : yO h 32 s) (h2 : yr h 32 0 s = some m) : hq Z h (ysr h 16 6 m (some s)) := by
  have ne : ∀ c b, c ≠ 16 → yO h c b → ysr h 16 6 m (some s) b = h b := fun c b hc hb => ysr_ne H (fun z => hc (yO_uq hb (by rw [z]; exact yO_of _ _ _ H)))
  refine ⟨fun a _ => yhd_sv _ _ _ _ _ _, fun a _ _ h3 => ysr_ne H (fun z => h3 (by rw [z]; exact yO_of _ _ _ H)), fun a ha j _ => yi_c (ne 22 a (by omega) ha), fun a ha => ⟨fun j j1 j6 => by rw [yr_sr H kn16_6, if_neg (by omega)], fun j j1 j6 => yi_sr H kn16_6 _ _ _ (by omega), fun K => ⟨fun v hv => ?_, fun v hv => ?_⟩⟩⟩
  · rw [yr_sr H kn16_6] at hv
    by_cases q : a = m
    · rw [if_pos ⟨rfl, rfl, q⟩] at hv
      injection hv with hv
      subst hv
      have e' := ne 32 s (by omega) h1
      exact ⟨(yO_c e').mpr h1, by rw [yr_c e', q]; exact h2⟩
    · rw [if_neg (fun z => q z.2.2)] at hv
      obtain ⟨k1, k2⟩ := K.1 v hv
      have e' := ne 32 v (by omega) k1
      exact ⟨(yO_c e').mpr k1, by rw [yr_c e']; exact k2⟩
  · rw [yr_sr H kn16_6] at hv
    rw [if_neg (by omega)] at hv
    obtain ⟨k1, k2⟩ := K.2 v hv
    have e' := ne 11 v (by omega) k1
    exact ⟨(yO_c e').mpr k1, by rw [yr_c e']; exact k2⟩
theorem hq_v1 {s : Nat} (H : yW h 16 m) (h1 : yO h 11 s) (h2 : yr h 11 0 s = some m) : hq Z h (ysr h 16 1 m (some s)) := by
  have ne : ∀ c b, c ≠ 16 → yO h c b → ysr h 16 1 m (some s) b = h b := fun c b hc hb => ysr_ne H (fun z => hc (yO_uq hb (by rw [z]; exact yO_of _ _ _ H)))
  refine ⟨fun a _ => yhd_sv _ _ _ _ _ _, fun a _ _ h3 => ysr_ne H (fun z => h3 (by rw [z]; exact yO_of _ _ _ H)), fun a ha j _ => yi_c (ne 22 a (by omega) ha), fun a ha => ⟨fun j j1 j6 => by rw [yr_sr H kn16_1, if_neg (by omega)], fun j j1 j6 => yi_sr H kn16_1 _ _ _ (by omega), fun K => ⟨fun v hv => ?_, fun v hv => ?_⟩⟩⟩
  · rw [yr_sr H kn16_1] at hv
    rw [if_neg (by omega)] at hv
    obtain ⟨k1, k2⟩ := K.1 v hv
    have e' := ne 32 v (by omega) k1
    exact ⟨(yO_c e').mpr k1, by rw [yr_c e']; exact k2⟩
  · rw [yr_sr H kn16_1] at hv
    by_cases q : a = m
    · rw [if_pos ⟨rfl, rfl, q⟩] at hv
      injection hv with hv
      subst hv
      have e' := ne 11 s (by omega) h1
      exact ⟨(yO_c e').mpr h1, by rw [yr_c e', q]; exact h2⟩
    · rw [if_neg (fun z => q z.2.2)] at hv
      obtain ⟨k1, k2⟩ := K.2 v hv
      have e' := ne 11 v (by omega) k1
      exact ⟨(yO_c e').mpr k1, by rw [yr_c e']; exact k2⟩
theorem k_entrySet (H : yW h 16 m) (K : kCh h m) (hb : xbd n h) : ∃ s h' dc ds, xsel (some m) [(16, fun z => fJ29_entrySet z)] Γ h n = some (.inl (some s), h', dc, ds) ∧ dc ≤ 1 ∧ ds ≤ 1 ∧ hq Z h h' ∧ xbd (n + dc) h' ∧ yO h' 32 s ∧ yr h' 32 0 s = some m := by
  have g1 := e_gR (Γ := Γ) (n := n) (yO_of _ _ _ H) kn16_6
  rw [e_sel (yO_of _ _ _ H)]
  unfold fJ29_entrySet
  cases hv : yr h 16 6 m with
  | some s =>
    rw [hv] at g1
    have := K.1 s hv
    refine ⟨s, h, 0, 0, ?_, by omega, by omega, hq.rfl, hb, this.1, this.2⟩
    rw [x_b1 g1, if_neg (fun z => nomatch z)]
    rfl
  | none =>
    rw [hv] at g1
    let f : xH := xupd h n (true, .inr (32, [va_rf (some m)]))
    have sf : hsub h f := hsub_up (hb n (Nat.le_refl _))
    have Hf := hW H sf
    have fn : f n = some (true, .inr (32, [va_rf (some m)])) := up_self
    have o1 : yO f 32 n := ⟨true, by unfold yhd; rw [fn]; rfl⟩
    have o2 : yr f 32 0 n = some m := by unfold yr yv; rw [fn]; rfl
    have q := hq_v6 (Z := Z) Hf o1 o2
    have en := q.o o1 (by omega) (by omega)
    refine ⟨n, ysr f 16 6 m (some n), 1, 1, ?_, by omega, by omega, (sf.q).trans q, ?_, (yO_c en).mpr o1, by rw [yr_c en]; exact o2⟩
    · have e1 : xput 32 0 (some n) (va_rf (some m)) Γ (xupd h n (true, .inr (32, [.null]))) (n + 1) = some (.inl (), f, 0, 0) := o1_p (Γ := Γ) (h := h) (n := n + 1) (a := n) (ci := 32) (k := 0) (fs := [.null]) (v := va_rf (some m)) (by simp)
      have e2 : fJ37_init n (some m) Γ (xupd h n (true, .inr (32, [.null]))) (n + 1) = some (.inl (), f, 0, 0) := by
        unfold fJ37_init fJ36_init__J37 fJ0_init__J37
        rw [x_b1 e1]
        rfl
      have e3 : xput 16 6 (some m) (va_rf (some n)) Γ f (n + 1) = some (.inl (), ysr f 16 6 m (some n), 0, 0) := e_put Hf (by rw [ykd_rf]; exact kn16_6)
      rw [x_b1 g1, if_pos rfl, x_bc (show xnew 32 [.null] 1 Γ h n = some (.inl n, xupd h n (true, .inr (32, [.null])), 1, 1) from rfl), x_b1 e2, x_b1 e3]
      rfl
    · intro a ha
      rw [ysr_ne Hf]
      · exact xbd_up1 hb a ha
      · rintro rfl
        exact yO_at (yO_of _ _ _ H) (hb _ (by omega))
theorem k_values (H : yW h 16 m) (K : kCh h m) (hb : xbd n h) : ∃ s h' dc ds, xsel (some m) [(16, fun z => fJ29_values z)] Γ h n = some (.inl (some s), h', dc, ds) ∧ dc ≤ 1 ∧ ds ≤ 1 ∧ hq Z h h' ∧ xbd (n + dc) h' ∧ yO h' 11 s ∧ yr h' 11 0 s = some m := by
  have g1 := e_gR (Γ := Γ) (n := n) (yO_of _ _ _ H) kn16_1
  rw [e_sel (yO_of _ _ _ H)]
  unfold fJ29_values
  cases hv : yr h 16 1 m with
  | some s =>
    rw [hv] at g1
    have := K.2 s hv
    refine ⟨s, h, 0, 0, ?_, by omega, by omega, hq.rfl, hb, this.1, this.2⟩
    rw [x_b1 g1, if_neg (fun z => nomatch z)]
    rfl
  | none =>
    rw [hv] at g1
    let f : xH := xupd h n (true, .inr (11, [va_rf (some m)]))
    have sf : hsub h f := hsub_up (hb n (Nat.le_refl _))
    have Hf := hW H sf
    have fn : f n = some (true, .inr (11, [va_rf (some m)])) := up_self
    have o1 : yO f 11 n := ⟨true, by unfold yhd; rw [fn]; rfl⟩
    have o2 : yr f 11 0 n = some m := by unfold yr yv; rw [fn]; rfl
    have q := hq_v1 (Z := Z) Hf o1 o2
    have en := q.o o1 (by omega) (by omega)
    refine ⟨n, ysr f 16 1 m (some n), 1, 1, ?_, by omega, by omega, (sf.q).trans q, ?_, (yO_c en).mpr o1, by rw [yr_c en]; exact o2⟩
    · have e1 : xput 11 0 (some n) (va_rf (some m)) Γ (xupd h n (true, .inr (11, [.null]))) (n + 1) = some (.inl (), f, 0, 0) := o1_p (Γ := Γ) (h := h) (n := n + 1) (a := n) (ci := 11) (k := 0) (fs := [.null]) (v := va_rf (some m)) (by simp)
      have e2 : fJ40_init n (some m) Γ (xupd h n (true, .inr (11, [.null]))) (n + 1) = some (.inl (), f, 0, 0) := by
        unfold fJ40_init fJ0_init__J40
        rw [x_b1 e1]
        rfl
      have e3 : xput 16 1 (some m) (va_rf (some n)) Γ f (n + 1) = some (.inl (), ysr f 16 1 m (some n), 0, 0) := e_put Hf (by rw [ykd_rf]; exact kn16_1)
      rw [x_b1 g1, if_pos rfl, x_bc (show xnew 11 [.null] 1 Γ h n = some (.inl n, xupd h n (true, .inr (11, [.null])), 1, 1) from rfl), x_b1 e2, x_b1 e3]
      rfl
    · intro a ha
      rw [ysr_ne Hf]
      · exact xbd_up1 hb a ha
      · rintro rfl
        exact yO_at (yO_of _ _ _ H) (hb _ (by omega))
/-- the iterator of class 13 at it: next, last, the count, the book -/
def kJ13 (h : xH) (it : Nat) (a b : Option Nat) (c : Int32) (m : Nat) : xH := xupd h it (true, .inr (13, [va_rf a, va_rf b, .int c, va_rf (some m)]))
theorem k_it13 {s : Nat} (B : kBk h m k y e ps V) (h1 : yO h 32 s) (h2 : yr h 32 0 s = some m) (hb : xbd n h) : fJ37_iterator s Γ h n = some (.inl (some n), kJ13 h n (if 0 < k then some (e 0) else none) none (yi h 16 5 m) m, 1, 4) := by
  let f : xH := xupd h n (true, .inr (13, [.null, .null, .int 0, .null]))
  have sf : hsub h f := hsub_up (hb n (Nat.le_refl _))
  have g1 := e_gR (Γ := Γ) (n := n + 1) (hO h1 sf) kn32_0
  rw [yr_c (sf _ (yO_at h1)), h2] at g1
  obtain ⟨⟨l, r, p, rt, lo, hi, T⟩, b2, b3, b4, b5, b6, b7, b8⟩ := B.mono sf
  have g2 := k_first (Γ := Γ) (n := n + 1) T b7
  have hm := B.1.choose_spec.choose_spec.choose_spec.choose_spec.choose_spec.choose_spec.1.1
  have w1 : xput 13 3 (some n) (va_rf (some m)) Γ f (n + 1) = some (.inl (), xupd h n (true, .inr (13, [.null, .null, .int 0, va_rf (some m)])), 0, 0) := o1_p (Γ := Γ) (h := h) (n := n + 1) (a := n) (ci := 13) (k := 3) (fs := [.null, .null, .int 0, .null]) (v := va_rf (some m)) (by simp)
  have s2 : hsub h (xupd h n (true, .inr (13, [.null, .null, .int 0, va_rf (some m)]))) := hsub_up (hb n (Nat.le_refl _))
  have g3 := e_gI (Γ := Γ) (n := n + 1) (hO (yO_of _ _ _ hm) s2) kn16_5
  rw [yi_c (s2 _ (yO_at (yO_of _ _ _ hm)))] at g3
  have w2 : xput 13 2 (some n) (.int (yi h 16 5 m)) Γ (xupd h n (true, .inr (13, [.null, .null, .int 0, va_rf (some m)]))) (n + 1) = some (.inl (), xupd h n (true, .inr (13, [.null, .null, .int (yi h 16 5 m), va_rf (some m)])), 0, 0) := o1_p (Γ := Γ) (h := h) (n := n + 1) (a := n) (ci := 13) (k := 2) (fs := [.null, .null, .int 0, va_rf (some m)]) (v := .int (yi h 16 5 m)) (by simp)
  have w3 : xput 13 1 (some n) (va_rf none) Γ (xupd h n (true, .inr (13, [.null, .null, .int (yi h 16 5 m), va_rf (some m)]))) (n + 1) = some (.inl (), xupd h n (true, .inr (13, [.null, va_rf none, .int (yi h 16 5 m), va_rf (some m)])), 0, 0) := o1_p (Γ := Γ) (h := h) (n := n + 1) (a := n) (ci := 13) (k := 1) (fs := [.null, .null, .int (yi h 16 5 m), va_rf (some m)]) (v := va_rf none) (by simp)
  have w4 : xput 13 0 (some n) (va_rf (if 0 < k then some (e 0) else none)) Γ (xupd h n (true, .inr (13, [.null, va_rf none, .int (yi h 16 5 m), va_rf (some m)]))) (n + 1) = some (.inl (), kJ13 h n (if 0 < k then some (e 0) else none) none (yi h 16 5 m) m, 0, 0) := o1_p (Γ := Γ) (h := h) (n := n + 1) (a := n) (ci := 13) (k := 0) (fs := [.null, va_rf none, .int (yi h 16 5 m), va_rf (some m)]) (v := va_rf (if 0 < k then some (e 0) else none)) (by simp)
  have i1 : fJ38_init__J39 n (some m) (if 0 < k then some (e 0) else none) Γ f (n + 1) = some (.inl (), kJ13 h n (if 0 < k then some (e 0) else none) none (yi h 16 5 m) m, 0, 0) := by
    unfold fJ38_init__J39
    rw [x_b1 w1, x_b1 g3, x_b1 w2, x_b1 w3, x_b1 w4]
    rfl
  have i2 : fJ39_init n (some m) (if 0 < k then some (e 0) else none) Γ f (n + 1) = some (.inl (), kJ13 h n (if 0 < k then some (e 0) else none) none (yi h 16 5 m) m, 0, 0) := by
    unfold fJ39_init
    rw [x_b1 i1]
    rfl
  unfold fJ37_iterator
  rw [x_bc (show xnew 13 [.null, .null, .int 0, .null] 4 Γ h n = some (.inl n, f, 1, 4) from rfl), x_b1 g1, x_b1 g1, x_b1 g2, x_b1 i2]
  rfl
theorem k_has13 {it : Nat} {a b : Option Nat} {c : Int32} : xsel (some it) [(13, fun z => fJ38_hasNext__J39 z)] Γ (kJ13 h it a b c m) n = some (.inl (if a = none then Int32.ofNat 0 else Int32.ofNat 1), kJ13 h it a b c m, 0, 0) := by
  unfold kJ13
  rw [o1_sel]
  unfold fJ38_hasNext__J39
  rw [x_b1 (o1_gR (v := a) rfl)]
  by_cases q : a = none
  · rw [if_pos q, if_pos q]; rfl
  · rw [if_neg q, if_neg q]; rfl
theorem k_next13 {it i : Nat} {b : Option Nat} (B : kBk h m k y e ps V) (hi' : i < k) (hn : h it = none) : xsel (some it) [(13, fun z => fJ39_next z)] Γ (kJ13 h it (some (e i)) b (yi h 16 5 m) m) n = some (.inl (some (e i)), kJ13 h it (if i + 1 < k then some (e (i + 1)) else none) (some (e i)) (yi h 16 5 m) m, 0, 0) := by
  have sf : ∀ a b c, hsub h (kJ13 h it a b c m) := fun a b c => hsub_up hn
  obtain ⟨nd1, nd2, -⟩ := k_nd B hi'
  have hm := yO_of _ _ _ B.1.choose_spec.choose_spec.choose_spec.choose_spec.choose_spec.choose_spec.1.1
  have s1 := sf (some (e i)) b (yi h 16 5 m)
  obtain ⟨⟨l, r, p, rt, lo, hi, T⟩, b2, b3, b4, b5, b6, b7, b8⟩ := B.mono s1
  have g2 := k_succ (Γ := Γ) (n := n) T b7 hi'
  have g3 := e_gI (Γ := Γ) (n := n) (hO hm s1) kn16_5
  rw [yi_c (s1 _ (yO_at hm))] at g3
  have w1 : xput 13 0 (some it) (va_rf (if i + 1 < k then some (e (i + 1)) else none)) Γ (kJ13 h it (some (e i)) b (yi h 16 5 m) m) n = some (.inl (), kJ13 h it (if i + 1 < k then some (e (i + 1)) else none) b (yi h 16 5 m) m, 0, 0) := o1_p (by simp)
  have w2 : xput 13 1 (some it) (va_rf (some (e i))) Γ (kJ13 h it (if i + 1 < k then some (e (i + 1)) else none) b (yi h 16 5 m) m) n = some (.inl (), kJ13 h it (if i + 1 < k then some (e (i + 1)) else none) (some (e i)) (yi h 16 5 m) m, 0, 0) := o1_p (by simp)
  have f0 : xgR 13 0 (some it) Γ (kJ13 h it (some (e i)) b (yi h 16 5 m) m) n = some (.inl (some (e i)), kJ13 h it (some (e i)) b (yi h 16 5 m) m, 0, 0) := o1_gR rfl
  have f3 : xgR 13 3 (some it) Γ (kJ13 h it (some (e i)) b (yi h 16 5 m) m) n = some (.inl (some m), kJ13 h it (some (e i)) b (yi h 16 5 m) m, 0, 0) := o1_gR rfl
  have f2 : xgI 13 2 (some it) Γ (kJ13 h it (some (e i)) b (yi h 16 5 m) m) n = some (.inl (yi h 16 5 m), kJ13 h it (some (e i)) b (yi h 16 5 m) m, 0, 0) := o1_gI rfl
  have e1 : xsel (some it) [(13, fun z => fJ38_nextEntry__J39 z)] Γ (kJ13 h it (some (e i)) b (yi h 16 5 m) m) n = some (.inl (some (e i)), kJ13 h it (if i + 1 < k then some (e (i + 1)) else none) (some (e i)) (yi h 16 5 m) m, 0, 0) := by
    rw [show xsel (some it) [(13, fun z => fJ38_nextEntry__J39 z)] Γ (kJ13 h it (some (e i)) b (yi h 16 5 m) m) n = fJ38_nextEntry__J39 it Γ (kJ13 h it (some (e i)) b (yi h 16 5 m) m) n from o1_sel]
    unfold fJ38_nextEntry__J39
    rw [x_b1 f0, if_neg (fun z => nomatch z), x_b1 f3, x_b1 g3, x_b1 f2, if_pos rfl, x_b1 g2, x_b1 w1, x_b1 w2]
    rfl
  rw [show xsel (some it) [(13, fun z => fJ39_next z)] Γ (kJ13 h it (some (e i)) b (yi h 16 5 m) m) n = fJ39_next it Γ (kJ13 h it (some (e i)) b (yi h 16 5 m) m) n from o1_sel]
  unfold fJ39_next
  have e2 : xsel (some it) [(13, fun z => fJ39_next_2 z)] Γ (kJ13 h it (some (e i)) b (yi h 16 5 m) m) n = some (.inl (some (e i)), kJ13 h it (if i + 1 < k then some (e (i + 1)) else none) (some (e i)) (yi h 16 5 m) m, 0, 0) := by
    rw [show xsel (some it) [(13, fun z => fJ39_next_2 z)] Γ (kJ13 h it (some (e i)) b (yi h 16 5 m) m) n = fJ39_next_2 it Γ (kJ13 h it (some (e i)) b (yi h 16 5 m) m) n from o1_sel]
    unfold fJ39_next_2
    rw [x_b1 e1]
    rfl
  rw [x_b1 e2]
  rfl
/-- the iterator of class 14 at it: next, last, the count, the book -/
def kJ14 (h : xH) (it : Nat) (a b : Option Nat) (c : Int32) (m : Nat) : xH := xupd h it (true, .inr (14, [va_rf a, va_rf b, .int c, va_rf (some m)]))
theorem k_it14 {s : Nat} (B : kBk h m k y e ps V) (h1 : yO h 11 s) (h2 : yr h 11 0 s = some m) (hb : xbd n h) : fJ40_iterator s Γ h n = some (.inl (some n), kJ14 h n (if 0 < k then some (e 0) else none) none (yi h 16 5 m) m, 1, 4) := by
  let f : xH := xupd h n (true, .inr (14, [.null, .null, .int 0, .null]))
  have sf : hsub h f := hsub_up (hb n (Nat.le_refl _))
  have g1 := e_gR (Γ := Γ) (n := n + 1) (hO h1 sf) kn11_0
  rw [yr_c (sf _ (yO_at h1)), h2] at g1
  obtain ⟨⟨l, r, p, rt, lo, hi, T⟩, b2, b3, b4, b5, b6, b7, b8⟩ := B.mono sf
  have g2 := k_first (Γ := Γ) (n := n + 1) T b7
  have hm := B.1.choose_spec.choose_spec.choose_spec.choose_spec.choose_spec.choose_spec.1.1
  have w1 : xput 14 3 (some n) (va_rf (some m)) Γ f (n + 1) = some (.inl (), xupd h n (true, .inr (14, [.null, .null, .int 0, va_rf (some m)])), 0, 0) := o1_p (Γ := Γ) (h := h) (n := n + 1) (a := n) (ci := 14) (k := 3) (fs := [.null, .null, .int 0, .null]) (v := va_rf (some m)) (by simp)
  have s2 : hsub h (xupd h n (true, .inr (14, [.null, .null, .int 0, va_rf (some m)]))) := hsub_up (hb n (Nat.le_refl _))
  have g3 := e_gI (Γ := Γ) (n := n + 1) (hO (yO_of _ _ _ hm) s2) kn16_5
  rw [yi_c (s2 _ (yO_at (yO_of _ _ _ hm)))] at g3
  have w2 : xput 14 2 (some n) (.int (yi h 16 5 m)) Γ (xupd h n (true, .inr (14, [.null, .null, .int 0, va_rf (some m)]))) (n + 1) = some (.inl (), xupd h n (true, .inr (14, [.null, .null, .int (yi h 16 5 m), va_rf (some m)])), 0, 0) := o1_p (Γ := Γ) (h := h) (n := n + 1) (a := n) (ci := 14) (k := 2) (fs := [.null, .null, .int 0, va_rf (some m)]) (v := .int (yi h 16 5 m)) (by simp)
  have w3 : xput 14 1 (some n) (va_rf none) Γ (xupd h n (true, .inr (14, [.null, .null, .int (yi h 16 5 m), va_rf (some m)]))) (n + 1) = some (.inl (), xupd h n (true, .inr (14, [.null, va_rf none, .int (yi h 16 5 m), va_rf (some m)])), 0, 0) := o1_p (Γ := Γ) (h := h) (n := n + 1) (a := n) (ci := 14) (k := 1) (fs := [.null, .null, .int (yi h 16 5 m), va_rf (some m)]) (v := va_rf none) (by simp)
  have w4 : xput 14 0 (some n) (va_rf (if 0 < k then some (e 0) else none)) Γ (xupd h n (true, .inr (14, [.null, va_rf none, .int (yi h 16 5 m), va_rf (some m)]))) (n + 1) = some (.inl (), kJ14 h n (if 0 < k then some (e 0) else none) none (yi h 16 5 m) m, 0, 0) := o1_p (Γ := Γ) (h := h) (n := n + 1) (a := n) (ci := 14) (k := 0) (fs := [.null, va_rf none, .int (yi h 16 5 m), va_rf (some m)]) (v := va_rf (if 0 < k then some (e 0) else none)) (by simp)
  have i1 : fJ38_init__J43 n (some m) (if 0 < k then some (e 0) else none) Γ f (n + 1) = some (.inl (), kJ14 h n (if 0 < k then some (e 0) else none) none (yi h 16 5 m) m, 0, 0) := by
    unfold fJ38_init__J43
    rw [x_b1 w1, x_b1 g3, x_b1 w2, x_b1 w3, x_b1 w4]
    rfl
  have i2 : fJ43_init n (some m) (if 0 < k then some (e 0) else none) Γ f (n + 1) = some (.inl (), kJ14 h n (if 0 < k then some (e 0) else none) none (yi h 16 5 m) m, 0, 0) := by
    unfold fJ43_init
    rw [x_b1 i1]
    rfl
  unfold fJ40_iterator
  rw [x_bc (show xnew 14 [.null, .null, .int 0, .null] 4 Γ h n = some (.inl n, f, 1, 4) from rfl), x_b1 g1, x_b1 g1, x_b1 g2, x_b1 i2]
  rfl
theorem k_has14 {it : Nat} {a b : Option Nat} {c : Int32} : xsel (some it) [(14, fun z => fJ38_hasNext__J43 z)] Γ (kJ14 h it a b c m) n = some (.inl (if a = none then Int32.ofNat 0 else Int32.ofNat 1), kJ14 h it a b c m, 0, 0) := by
  unfold kJ14
  rw [o1_sel]
  unfold fJ38_hasNext__J43
  rw [x_b1 (o1_gR (v := a) rfl)]
  by_cases q : a = none
  · rw [if_pos q, if_pos q]; rfl
  · rw [if_neg q, if_neg q]; rfl
theorem k_next14 {it i : Nat} {b : Option Nat} (B : kBk h m k y e ps V) (hi' : i < k) (hn : h it = none) : xsel (some it) [(14, fun z => fJ43_next z)] Γ (kJ14 h it (some (e i)) b (yi h 16 5 m) m) n = some (.inl (some (V i)), kJ14 h it (if i + 1 < k then some (e (i + 1)) else none) (some (e i)) (yi h 16 5 m) m, 0, 0) := by
  have sf : ∀ a b c, hsub h (kJ14 h it a b c m) := fun a b c => hsub_up hn
  obtain ⟨nd1, nd2, -⟩ := k_nd B hi'
  have hm := yO_of _ _ _ B.1.choose_spec.choose_spec.choose_spec.choose_spec.choose_spec.choose_spec.1.1
  have s1 := sf (some (e i)) b (yi h 16 5 m)
  obtain ⟨⟨l, r, p, rt, lo, hi, T⟩, b2, b3, b4, b5, b6, b7, b8⟩ := B.mono s1
  have g2 := k_succ (Γ := Γ) (n := n) T b7 hi'
  have g3 := e_gI (Γ := Γ) (n := n) (hO hm s1) kn16_5
  rw [yi_c (s1 _ (yO_at hm))] at g3
  have w1 : xput 14 0 (some it) (va_rf (if i + 1 < k then some (e (i + 1)) else none)) Γ (kJ14 h it (some (e i)) b (yi h 16 5 m) m) n = some (.inl (), kJ14 h it (if i + 1 < k then some (e (i + 1)) else none) b (yi h 16 5 m) m, 0, 0) := o1_p (by simp)
  have w2 : xput 14 1 (some it) (va_rf (some (e i))) Γ (kJ14 h it (if i + 1 < k then some (e (i + 1)) else none) b (yi h 16 5 m) m) n = some (.inl (), kJ14 h it (if i + 1 < k then some (e (i + 1)) else none) (some (e i)) (yi h 16 5 m) m, 0, 0) := o1_p (by simp)
  have f0 : xgR 14 0 (some it) Γ (kJ14 h it (some (e i)) b (yi h 16 5 m) m) n = some (.inl (some (e i)), kJ14 h it (some (e i)) b (yi h 16 5 m) m, 0, 0) := o1_gR rfl
  have f3 : xgR 14 3 (some it) Γ (kJ14 h it (some (e i)) b (yi h 16 5 m) m) n = some (.inl (some m), kJ14 h it (some (e i)) b (yi h 16 5 m) m, 0, 0) := o1_gR rfl
  have f2 : xgI 14 2 (some it) Γ (kJ14 h it (some (e i)) b (yi h 16 5 m) m) n = some (.inl (yi h 16 5 m), kJ14 h it (some (e i)) b (yi h 16 5 m) m, 0, 0) := o1_gI rfl
  have e1 : xsel (some it) [(14, fun z => fJ38_nextEntry__J43 z)] Γ (kJ14 h it (some (e i)) b (yi h 16 5 m) m) n = some (.inl (some (e i)), kJ14 h it (if i + 1 < k then some (e (i + 1)) else none) (some (e i)) (yi h 16 5 m) m, 0, 0) := by
    rw [show xsel (some it) [(14, fun z => fJ38_nextEntry__J43 z)] Γ (kJ14 h it (some (e i)) b (yi h 16 5 m) m) n = fJ38_nextEntry__J43 it Γ (kJ14 h it (some (e i)) b (yi h 16 5 m) m) n from o1_sel]
    unfold fJ38_nextEntry__J43
    rw [x_b1 f0, if_neg (fun z => nomatch z), x_b1 f3, x_b1 g3, x_b1 f2, if_pos rfl, x_b1 g2, x_b1 w1, x_b1 w2]
    rfl
  rw [show xsel (some it) [(14, fun z => fJ43_next z)] Γ (kJ14 h it (some (e i)) b (yi h 16 5 m) m) n = fJ43_next it Γ (kJ14 h it (some (e i)) b (yi h 16 5 m) m) n from o1_sel]
  unfold fJ43_next
  have s2 := sf (if i + 1 < k then some (e (i + 1)) else none) (some (e i)) (yi h 16 5 m)
  have g4 := e_gR (Γ := Γ) (n := n) (hO nd1 s2) kn36_1
  rw [yr_c (s2 _ (yO_at nd1)), nd2] at g4
  rw [x_b1 e1, x_b1 g4]
  rfl
end KVW
