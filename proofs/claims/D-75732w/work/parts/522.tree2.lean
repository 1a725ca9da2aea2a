/-! part 522: search trees: the mirror, the other rotation -/
section MIR
variable {k : Nat} {e ps : Nat → Nat} {l r p : oN} {rt : Option Nat} {lo hi : Nat → Nat}
theorem nd_mir (t1 : ∀ i, i < k → ps (e i) = i) {a : Nat} : nd k (fun i => e (k - 1 - i)) (fun a => k - 1 - ps a) a ↔ nd k e ps a := by
  unfold nd
  constructor
  · rintro ⟨h1, h2⟩
    have hk : 0 < k := by omega
    dsimp only at h1 h2
    have h3 := t1 (k - 1 - (k - 1 - ps a)) (by omega)
    rw [h2] at h3
    refine ⟨by omega, ?_⟩
    have : k - 1 - (k - 1 - ps a) = ps a := by omega
    rw [this] at h2
    exact h2
  · rintro ⟨h1, h2⟩
    dsimp only
    have : k - 1 - (k - 1 - ps a) = ps a := by omega
    exact ⟨by omega, by rw [this]; exact h2⟩
theorem pT.mir (T : pT k e ps l r p rt lo hi) : pT k (fun i => e (k - 1 - i)) (fun a => k - 1 - ps a) r l p rt (fun a => k - hi a) (fun a => k - lo a) := by
  obtain ⟨t1, t2, t3, t4, t5, t6, t7, t8, t9, t10⟩ := T
  refine ⟨fun i hi => ?_, fun a ha => ?_, fun a ha h0 => ?_, fun a b ha h0 => ?_, fun a ha h0 => ?_, fun a b ha h0 => ?_, fun a ha h0 => t7 a ((nd_mir t1).mp ha) h0, fun a b ha h0 => ?_, t9, fun a h0 => ?_⟩
  · dsimp only
    rw [t1 _ (by omega)]
    omega
  · have h1 := (nd_mir t1).mp ha
    have := t2 a h1
    dsimp only
    omega
  · have h1 := (nd_mir t1).mp ha
    have := t2 a h1
    have := t5 a h1 h0
    dsimp only
    omega
  · have h1 := (nd_mir t1).mp ha
    have b1 := t2 a h1
    obtain ⟨c1, c2, c3, c4⟩ := t6 a b h1 h0
    have b2 := t2 b c1
    dsimp only
    exact ⟨(nd_mir t1).mpr c1, by omega, by omega, c4⟩
  · have h1 := (nd_mir t1).mp ha
    have := t2 a h1
    have := t3 a h1 h0
    dsimp only
    omega
  · have h1 := (nd_mir t1).mp ha
    have b1 := t2 a h1
    obtain ⟨c1, c2, c3, c4⟩ := t4 a b h1 h0
    have b2 := t2 b c1
    dsimp only
    exact ⟨(nd_mir t1).mpr c1, by omega, by omega, c4⟩
  · obtain ⟨c1, c2⟩ := t8 a b ((nd_mir t1).mp ha) h0
    exact ⟨(nd_mir t1).mpr c1, c2.symm⟩
  · obtain ⟨c1, c2, c3, c4⟩ := t10 a h0
    dsimp only
    exact ⟨(nd_mir t1).mpr c1, by omega, by omega, c4⟩
/-- nodes, pointers and ranges count alone -/
theorem pT.cg {e' ps' : Nat → Nat} {lo' hi' : Nat → Nat} (T : pT k e ps l r p rt lo hi) (he : ∀ i, i < k → e' i = e i) (hps : ∀ a, nd k e ps a → ps' a = ps a) (hn : ∀ a, nd k e' ps' a → nd k e ps a) (hlo : ∀ a, nd k e ps a → lo' a = lo a) (hhi : ∀ a, nd k e ps a → hi' a = hi a) : pT k e' ps' l r p rt lo' hi' := by
  obtain ⟨t1, t2, t3, t4, t5, t6, t7, t8, t9, t10⟩ := T
  have hm : ∀ a, nd k e ps a → nd k e' ps' a := fun a ha => ⟨by rw [hps a ha]; exact ha.1, by rw [hps a ha, he _ ha.1]; exact ha.2⟩
  have ne : ∀ i, i < k → nd k e ps (e i) := fun i hi => ⟨by rw [t1 i hi]; exact hi, by rw [t1 i hi]⟩
  refine ⟨fun i hi => ?_, fun a ha => ?_, fun a ha h0 => ?_, fun a b ha h0 => ?_, fun a ha h0 => ?_, fun a b ha h0 => ?_, fun a ha h0 => t7 a (hn a ha) h0, fun a b ha h0 => ?_, t9, fun a h0 => ?_⟩
  · rw [he i hi, hps _ (ne i hi), t1 i hi]
  · have h1 := hn a ha
    rw [hlo a h1, hhi a h1, hps a h1]
    exact t2 a h1
  · have h1 := hn a ha
    rw [hlo a h1, hps a h1]
    exact t3 a h1 h0
  · have h1 := hn a ha
    obtain ⟨c1, c2, c3, c4⟩ := t4 a b h1 h0
    rw [hlo a h1, hps a h1, hlo b c1, hhi b c1]
    exact ⟨hm b c1, c2, c3, c4⟩
  · have h1 := hn a ha
    rw [hhi a h1, hps a h1]
    exact t5 a h1 h0
  · have h1 := hn a ha
    obtain ⟨c1, c2, c3, c4⟩ := t6 a b h1 h0
    rw [hhi a h1, hps a h1, hlo b c1, hhi b c1]
    exact ⟨hm b c1, c2, c3, c4⟩
  · obtain ⟨c1, c2⟩ := t8 a b (hn a ha) h0
    exact ⟨hm b c1, c2⟩
  · obtain ⟨c1, c2, c3, c4⟩ := t10 a h0
    rw [hlo a c1, hhi a c1]
    exact ⟨hm a c1, c2, c3, c4⟩
/-- b comes to the place of its parent a, whose left child it is -/
theorem pT.rotR {a b : Nat} {l' r' p' : oN} {rt' : Option Nat} (T : pT k e ps l r p rt lo hi) (ha : nd k e ps a) (hl : l a = some b)
    (hr' : ∀ x, r' x = if x = b then some a else if p a = some x ∧ r x = some a then some b else r x)
    (hl' : ∀ x, l' x = if x = a then r b else if p a = some x ∧ ¬ r x = some a then some b else l x)
    (hp' : ∀ x, p' x = if x = a then some b else if x = b then p a else if r b = some x then some a else p x)
    (hrt : rt' = if p a = none then some b else rt) : pT k e ps l' r' p' rt' (va_up lo a (ps b + 1)) (va_up hi b (hi a)) := by
  have t1 := T.1
  have t2 := T.2.1
  have hb := (T.2.2.2.1 a b ha hl).1
  have bb := t2 b hb
  have M := T.mir.rotL ((nd_mir t1).mpr ha) hl hr' hl' hp' hrt
  have M2 := M.mir
  have nm : ∀ x, nd k (fun i => e (k - 1 - (k - 1 - i))) (fun a => k - 1 - (k - 1 - ps a)) x ↔ nd k e ps x := fun x => (nd_mir (e := fun i => e (k - 1 - i)) (ps := fun a => k - 1 - ps a) M.1).trans (nd_mir t1)
  refine M2.cg (fun i hi => ?_) (fun x hx => ?_) (fun x hx => ?_) (fun x hx => ?_) (fun x hx => ?_)
  · show e i = e (k - 1 - (k - 1 - i))
    congr 1
    omega
  · have h1 := (nm x).mp hx
    have := h1.1
    show ps x = k - 1 - (k - 1 - ps x)
    omega
  · exact (nm x).mpr hx
  · have h1 := (nm x).mp hx
    have := t2 x h1
    simp only [va_ap]
    split
    · omega
    · omega
  · have h1 := (nm x).mp hx
    have := t2 x h1
    have := t2 a ha
    simp only [va_ap]
    split
    · omega
    · omega
end MIR
/-! a tree in the heap: its map at m -/
def kE (h : xH) (m k : Nat) (e ps : Nat → Nat) (l r p : oN) (rt : Option Nat) : Prop := yW h 16 m ∧ yr h 16 3 m = rt ∧ ∀ a, nd k e ps a → yW h 36 a ∧ yr h 36 2 a = l a ∧ yr h 36 3 a = r a ∧ yr h 36 4 a = p a
section KE
variable {Γ : Nat → Option Nat} {h : xH} {n m k : Nat} {e ps : Nat → Nat} {l r p : oN} {rt : Option Nat} {lo hi : Nat → Nat}
/-- a pointer is set -/
theorem kE.sl {a : Nat} {v : Option Nat} (H : kE h m k e ps l r p rt) (ha : nd k e ps a) : xput 36 2 (some a) (va_rf v) Γ h n = some (.inl (), ysr h 36 2 a v, 0, 0) ∧ kE (ysr h 36 2 a v) m k e ps (va_up l a v) r p rt := by
  have W := (H.2.2 a ha).1
  refine ⟨e_put W (by rw [ykd_rf]; exact kn36_2), (yW_sv _ _ _ _ _ _ _).mpr H.1, ?_, fun x hx => ?_⟩
  · rw [yr_sr W kn36_2, if_neg (by omega)]; exact H.2.1
  · obtain ⟨h1, h2, h3, h4⟩ := H.2.2 x hx
    refine ⟨(yW_sv _ _ _ _ _ _ _).mpr h1, ?_, ?_, ?_⟩
    · rw [yr_sr W kn36_2, va_ap, h2]; simp
    · rw [yr_sr W kn36_2, if_neg (by omega)]; exact h3
    · rw [yr_sr W kn36_2, if_neg (by omega)]; exact h4
theorem kE.sr {a : Nat} {v : Option Nat} (H : kE h m k e ps l r p rt) (ha : nd k e ps a) : xput 36 3 (some a) (va_rf v) Γ h n = some (.inl (), ysr h 36 3 a v, 0, 0) ∧ kE (ysr h 36 3 a v) m k e ps l (va_up r a v) p rt := by
  have W := (H.2.2 a ha).1
  refine ⟨e_put W (by rw [ykd_rf]; exact kn36_3), (yW_sv _ _ _ _ _ _ _).mpr H.1, ?_, fun x hx => ?_⟩
  · rw [yr_sr W kn36_3, if_neg (by omega)]; exact H.2.1
  · obtain ⟨h1, h2, h3, h4⟩ := H.2.2 x hx
    refine ⟨(yW_sv _ _ _ _ _ _ _).mpr h1, ?_, ?_, ?_⟩
    · rw [yr_sr W kn36_3, if_neg (by omega)]; exact h2
    · rw [yr_sr W kn36_3, va_ap, h3]; simp
    · rw [yr_sr W kn36_3, if_neg (by omega)]; exact h4
theorem kE.sp {a : Nat} {v : Option Nat} (H : kE h m k e ps l r p rt) (ha : nd k e ps a) : xput 36 4 (some a) (va_rf v) Γ h n = some (.inl (), ysr h 36 4 a v, 0, 0) ∧ kE (ysr h 36 4 a v) m k e ps l r (va_up p a v) rt := by
  have W := (H.2.2 a ha).1
  refine ⟨e_put W (by rw [ykd_rf]; exact kn36_4), (yW_sv _ _ _ _ _ _ _).mpr H.1, ?_, fun x hx => ?_⟩
  · rw [yr_sr W kn36_4, if_neg (by omega)]; exact H.2.1
  · obtain ⟨h1, h2, h3, h4⟩ := H.2.2 x hx
    refine ⟨(yW_sv _ _ _ _ _ _ _).mpr h1, ?_, ?_, ?_⟩
    · rw [yr_sr W kn36_4, if_neg (by omega)]; exact h2
    · rw [yr_sr W kn36_4, if_neg (by omega)]; exact h3
    · rw [yr_sr W kn36_4, va_ap, h4]; simp
theorem kE.srt {v : Option Nat} (H : kE h m k e ps l r p rt) : xput 16 3 (some m) (va_rf v) Γ h n = some (.inl (), ysr h 16 3 m v, 0, 0) ∧ kE (ysr h 16 3 m v) m k e ps l r p v := by
  have W := H.1
  refine ⟨e_put W (by rw [ykd_rf]; exact kn16_3), (yW_sv _ _ _ _ _ _ _).mpr H.1, ?_, fun x hx => ?_⟩
  · rw [yr_sr W kn16_3, if_pos ⟨rfl, rfl, rfl⟩]
  · obtain ⟨h1, h2, h3, h4⟩ := H.2.2 x hx
    refine ⟨(yW_sv _ _ _ _ _ _ _).mpr h1, ?_, ?_, ?_⟩
    · rw [yr_sr W kn16_3, if_neg (by omega)]; exact h2
    · rw [yr_sr W kn16_3, if_neg (by omega)]; exact h3
    · rw [yr_sr W kn16_3, if_neg (by omega)]; exact h4
theorem kE.gl {a : Nat} (H : kE h m k e ps l r p rt) (ha : nd k e ps a) : xgR 36 2 (some a) Γ h n = some (.inl (l a), h, 0, 0) := by rw [e_gR (yO_of _ _ _ (H.2.2 a ha).1) kn36_2, (H.2.2 a ha).2.1]
theorem kE.gr {a : Nat} (H : kE h m k e ps l r p rt) (ha : nd k e ps a) : xgR 36 3 (some a) Γ h n = some (.inl (r a), h, 0, 0) := by rw [e_gR (yO_of _ _ _ (H.2.2 a ha).1) kn36_3, (H.2.2 a ha).2.2.1]
theorem kE.gp {a : Nat} (H : kE h m k e ps l r p rt) (ha : nd k e ps a) : xgR 36 4 (some a) Γ h n = some (.inl (p a), h, 0, 0) := by rw [e_gR (yO_of _ _ _ (H.2.2 a ha).1) kn36_4, (H.2.2 a ha).2.2.2]
theorem kE.grt (H : kE h m k e ps l r p rt) : xgR 16 3 (some m) Γ h n = some (.inl rt, h, 0, 0) := by rw [e_gR (yO_of _ _ _ H.1) kn16_3, H.2.1]
/-- what a change of pointers and colors of the tree's cells leaves: all cells' other fields -/
def kSame (h g : xH) (m k : Nat) (e ps : Nat → Nat) : Prop := (∀ a, yhd g a = yhd h a) ∧ (∀ a, a ≠ m → ¬ nd k e ps a → g a = h a) ∧ (∀ a, yr g 36 0 a = yr h 36 0 a ∧ yr g 36 1 a = yr h 36 1 a) ∧ ∀ j, j ≠ 3 → yr g 16 j m = yr h 16 j m ∧ yi g 16 j m = yi h 16 j m
end KE
