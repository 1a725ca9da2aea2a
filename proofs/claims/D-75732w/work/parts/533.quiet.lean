/-! part 533: what asking may change: the closing number of an open ledger, the views that a book keeps -/
def kCh (h : xH) (m : Nat) : Prop := (∀ s, yr h 16 6 m = some s → yO h 32 s ∧ yr h 32 0 s = some m) ∧ ∀ s, yr h 16 1 m = some s → yO h 11 s ∧ yr h 11 0 s = some m
/-- g is h with more cells, other closing numbers of the ledgers in Z, other list iterators in Z and other views kept by books -/
def hq (Z : Nat → Prop) (h g : xH) : Prop := (∀ a, h a ≠ none → yhd g a = yhd h a) ∧ (∀ a, h a ≠ none → ¬ (Z a ∧ (yO h 22 a ∨ yO h 7 a)) → ¬ yO h 16 a → g a = h a) ∧ (∀ a, yO h 22 a → ∀ j, j ≠ 5 → yi g 22 j a = yi h 22 j a) ∧ ∀ a, yO h 16 a → (∀ j, j ≠ 1 → j ≠ 6 → yr g 16 j a = yr h 16 j a) ∧ (∀ j, j ≠ 1 → j ≠ 6 → yi g 16 j a = yi h 16 j a) ∧ (kCh h a → kCh g a)
theorem yO_uq {h : xH} {c d a : Nat} (H : yO h c a) (K : yO h d a) : c = d := by
  obtain ⟨w, e1⟩ := H
  obtain ⟨v, e2⟩ := K
  rw [e1] at e2
  injection e2 with e2
  injection e2 with _ e2
  injection e2 with e2
  injection e2
theorem yA_no {h : xH} {c t a : Nat} (H : yA h t a) (K : yO h c a) : False := by
  obtain ⟨w, n, e1⟩ := H
  obtain ⟨v, e2⟩ := K
  rw [e1] at e2
  injection e2 with e2
  injection e2 with _ e2
  nomatch e2
section HQ
variable {Z : Nat → Prop} {h g f : xH} {a c t : Nat}
theorem hd_O (e : yhd g a = yhd h a) : yO g c a ↔ yO h c a := by unfold yO; rw [e]
theorem hq.O (q : hq Z h g) (H : yO h c a) : yO g c a := (hd_O (q.1 a (yO_at H))).mpr H
theorem hq.W (q : hq Z h g) (H : yW h c a) : yW g c a := by unfold yW; rw [q.1 a (yO_at (yO_of _ _ _ H))]; exact H
theorem hq.o (q : hq Z h g) (H : yO h c a) (h1 : c ≠ 22 ∧ c ≠ 7) (h2 : c ≠ 16) : g a = h a := q.2.1 a (yO_at H) (fun z => z.2.elim (fun z => h1.1 (yO_uq H z)) (fun z => h1.2 (yO_uq H z))) (fun z => h2 (yO_uq H z))
theorem hq.i (q : hq Z h g) (H : yO h 7 a) (hz : ¬ Z a) : g a = h a := q.2.1 a (yO_at H) (fun z => hz z.1) (fun z => absurd (yO_uq H z) (by omega))
theorem hq.ar (q : hq Z h g) (H : yA h t a) : g a = h a := q.2.1 a (yA_at H) (fun z => z.2.elim (yA_no H) (yA_no H)) (fun z => yA_no H z)
theorem hq.l (q : hq Z h g) (H : yO h 22 a) (hz : ¬ Z a) : g a = h a := q.2.1 a (yO_at H) (fun z => hz z.1) (fun z => absurd (yO_uq H z) (by omega))
theorem hsub.q (s : hsub h g) : hq Z h g := by
  refine ⟨fun a ha => yhd_c (s a ha), fun a ha _ _ => s a ha, fun a ha j _ => yi_c (s a (yO_at ha)), fun a ha => ⟨fun j _ _ => yr_c (s a (yO_at ha)), fun j _ _ => yi_c (s a (yO_at ha)), fun k => ⟨fun v hv => ?_, fun v hv => ?_⟩⟩⟩
  · rw [yr_c (s a (yO_at ha))] at hv
    obtain ⟨k1, k2⟩ := k.1 v hv
    exact ⟨hO k1 s, by rw [yr_c (s v (yO_at k1))]; exact k2⟩
  · rw [yr_c (s a (yO_at ha))] at hv
    obtain ⟨k1, k2⟩ := k.2 v hv
    exact ⟨hO k1 s, by rw [yr_c (s v (yO_at k1))]; exact k2⟩
theorem hd_at (e : yhd g a = yhd h a) (ha : h a ≠ none) : g a ≠ none := by
  intro z
  unfold yhd at e
  rw [z] at e
  cases hc : h a with
  | none => exact ha hc
  | some v => rw [hc] at e; nomatch e
theorem hq.trans (q : hq Z h g) (r : hq Z g f) : hq Z h f := by
  refine ⟨fun a ha => (r.1 a (hd_at (q.1 a ha) ha)).trans (q.1 a ha), fun a ha h1 h2 => ?_, fun a ha j hj => (r.2.2.1 a (q.O ha) j hj).trans (q.2.2.1 a ha j hj), fun a ha => ?_⟩
  · have e := q.2.1 a ha h1 h2
    rw [r.2.1 a (by rw [e]; exact ha) (fun z => h1 ⟨z.1, z.2.imp (hd_O (q.1 a ha)).mp (hd_O (q.1 a ha)).mp⟩) (fun z => h2 ((hd_O (q.1 a ha)).mp z)), e]
  · obtain ⟨a1, a2, a3⟩ := q.2.2.2 a ha
    obtain ⟨b1, b2, b3⟩ := r.2.2.2 a (q.O ha)
    exact ⟨fun j j1 j6 => (b1 j j1 j6).trans (a1 j j1 j6), fun j j1 j6 => (b2 j j1 j6).trans (a2 j j1 j6), fun z => b3 (a3 z)⟩
theorem hq.rfl : hq Z h h := hsub.q hsub.rfl
/-- a closing number is set -/
theorem hq_5 {l : Nat} {v : Int32} (H : yW h 22 l) (hz : Z l) : hq Z h (ysi h 22 5 l v) := by
  have ne : ∀ a, a ≠ l → ysi h 22 5 l v a = h a := by
    intro a ha
    obtain ⟨fs, e, hk⟩ := yhd_o H
    unfold ysi ysv
    rw [e]
    simp only
    split
    · exact up_ne ha
    · rfl
  refine ⟨fun a _ => yhd_sv _ _ _ _ _ _, fun a _ h1 _ => ne a (fun e => h1 ⟨by rw [e]; exact hz, Or.inl (by rw [e]; exact yO_of _ _ _ H)⟩), fun a _ j hj => by rw [yi_si H kn22_5, if_neg (by omega)], fun a ha => ?_⟩
  have e := ne a (fun e => absurd (yO_uq ha (by rw [e]; exact yO_of _ _ _ H)) (by omega))
  refine ⟨fun j _ _ => yr_c e, fun j _ _ => yi_c e, fun k => ⟨fun s hs => ?_, fun s hs => ?_⟩⟩
  · rw [yr_c e] at hs
    obtain ⟨k1, k2⟩ := k.1 s hs
    have e' := ne s (fun e => absurd (yO_uq k1 (by rw [e]; exact yO_of _ _ _ H)) (by omega))
    exact ⟨(yO_c e').mpr k1, by rw [yr_c e']; exact k2⟩
  · rw [yr_c e] at hs
    obtain ⟨k1, k2⟩ := k.2 s hs
    have e' := ne s (fun e => absurd (yO_uq k1 (by rw [e]; exact yO_of _ _ _ H)) (by omega))
    exact ⟨(yO_c e').mpr k1, by rw [yr_c e']; exact k2⟩
variable {Y : Nat → Nat} {p fe s st x al ae pl m k y : Nat} {N L : Nat → Int32} {E : Nat → Nat → Nat} {P FE e ps V : Nat → Nat}
theorem kLg.hq {l : Nat} (H : kLg h l N s) (q : hq Z h g) : kLg g l N s := by
  obtain ⟨h1, h2, h3, h4, h5, h6, h7⟩ := H
  have o := yO_of _ _ _ h1
  exact ⟨q.W h1, (q.2.2.1 _ o 0 (by omega)).trans h2, (q.2.2.1 _ o 1 (by omega)).trans h3, (q.2.2.1 _ o 2 (by omega)).trans h4, (q.2.2.1 _ o 3 (by omega)).trans h5, (q.2.2.1 _ o 4 (by omega)).trans h6, (q.2.2.1 _ o 6 (by omega)).trans h7⟩
theorem kHd.hq (H : kHd h Y p N s) (q : hq Z h g) : kHd g Y p N s := by
  obtain ⟨h1, h2, h3, h4, h5, h6, h7, h8, h9, ⟨s1, s2, s3⟩, h10, h11, h12, h13, Q, h14, h15⟩ := H
  have e0 := q.o (yO_of _ _ _ h1) (by omega) (by omega)
  have e1 := q.ar (yA_of _ _ _ s1)
  have e2 := q.o (yO_of _ _ _ h10.1) (by omega) (by omega)
  have e3 := q.ar (yA_of _ _ _ h10.2.2.2.1)
  have e5 := q.o (yO_of _ _ _ h14.1) (by omega) (by omega)
  have e6 := q.ar (yA_of _ _ _ h14.2.2.1)
  exact ⟨(yW_c e0).mpr h1, (yr_c e0).trans h2, (yr_c e0).trans h3, (yr_c e0).trans h4, (yi_c e0).trans h5, (yi_c e0).trans h6, (yi_c e0).trans h7, (yr_c e0).trans h8, (yr_c e0).trans h9, ⟨(yB_c e1).mpr s1, (yln_c e1).trans s2, fun j hj => by rw [yli_c e1]; exact s3 j hj⟩, h10.cg e2 e3, fun j hj => by rw [yli_c e3]; exact h11 j hj, h12, h13.hq q, Q, h14.cg e5 e6, h15.cg (fun r hr => q.o hr (by omega) (by omega))⟩
theorem kSpN.hq (H : kSpN h p fe N s) (q : hq Z h g) : kSpN g p fe N s := by
  have e2 := q.ar H.1.2.2.2.2.1
  exact ⟨H.1.cg (q.o H.1.1 (by omega) (by omega)) e2, fun j hj => by rw [yli_c e2]; exact H.2 j hj⟩
theorem kSta.hq (H : kSta h st al ae pl E P N) (q : hq Z h g) : kSta g st al ae pl E P N := by
  obtain ⟨h1, h2, h3, h4, h5, h6, h7, h8, h9, h10, h11, h12⟩ := H
  have e1 := q.o (yO_of _ _ _ h1) (by omega) (by omega)
  have e6 := q.o (yO_of _ _ _ h6) (by omega) (by omega)
  have e8 := q.ar (yA_of _ _ _ h8)
  exact ⟨(yW_c e1).mpr h1, (yr_c e1).trans h2, (yr_c e1).trans h3, (yi_c e1).trans h4, (yi_c e1).trans h5, (yW_c e6).mpr h6, (yr_c e6).trans h7, (yB_c e8).mpr h8, (yln_c e8).trans h9, (yi_c e6).trans h10, fun t ht => by rw [ylr_c e8]; exact h11 t ht, fun t ht => (h12 t ht).hq q⟩
theorem kW.hq (H : kW h x st al ae pl E P FE N) (q : hq Z h g) : kW g x st al ae pl E P FE N := by
  obtain ⟨h1, h2, h3, h4, h5⟩ := H
  have e1 := q.o (yO_of _ _ _ h1) (by omega) (by omega)
  exact ⟨(yW_c e1).mpr h1, (yr_c e1).trans h2, h3, h4.hq q, fun t ht => (h5 t ht).hq q⟩
theorem kBk.hq (B : kBk h m k y e ps V) (q : hq Z h g) : kBk g m k y e ps V := by
  obtain ⟨⟨l, r, p, rt, lo, hi, T⟩, b2, b3, b4, b5, b6, b7, b8⟩ := B
  obtain ⟨m1, m2, m3⟩ := q.2.2.2 m (yO_of _ _ _ T.1.1)
  obtain ⟨c1, c2⟩ := m3 ⟨b5, b6⟩
  have ee : ∀ a, nd k e ps a → g a = h a := fun a ha => q.o (yO_of _ _ _ (T.1.2.2 a ha).1) (by omega) (by omega)
  refine ⟨⟨l, r, p, rt, lo, hi, ⟨q.W T.1.1, by rw [m1 3 (by omega) (by omega)]; exact T.1.2.1, fun a ha => ?_⟩, T.2.1, fun a ha => by rw [yi_c (ee a ha)]; exact T.2.2 a ha⟩, by rw [m1 2 (by omega) (by omega)]; exact b2, by rw [m2 4 (by omega) (by omega)]; exact b3, fun i hi' => ?_, c1, c2, b7, b8⟩
  · obtain ⟨q1, q2, q3, q4⟩ := T.1.2.2 a ha
    exact ⟨(yW_c (ee a ha)).mpr q1, by rw [yr_c (ee a ha)]; exact q2, by rw [yr_c (ee a ha)]; exact q3, by rw [yr_c (ee a ha)]; exact q4⟩
  · have hn : nd k e ps (e i) := ⟨by rw [T.2.1.1 i hi']; exact hi', by rw [T.2.1.1 i hi']⟩
    obtain ⟨⟨kb, k1, k2, k3⟩, k4⟩ := b4 i hi'
    have ek := q.o k2 (by omega) (by omega)
    exact ⟨⟨kb, by rw [yr_c (ee _ hn)]; exact k1, q.O k2, by rw [yi_c ek]; exact k3⟩, by rw [yr_c (ee _ hn)]; exact k4⟩
theorem kBo.hq (B : kBo h p m e ps V N L s) (hp : yO h 20 p) (hz : ∀ i, i < nn (N 2) → ¬ Z (V i)) (q : hq Z h g) : kBo g p m e ps V N L s :=
  ⟨by rw [yr_c (q.o hp (by omega) (by omega))]; exact B.1, B.2.1, B.2.2.1.hq q, fun i hi' => ⟨q.O (B.2.2.2 i hi').1, fun w hw => by rw [yi_c (q.l (B.2.2.2 i hi').1 (hz i hi'))]; exact (B.2.2.2 i hi').2 w hw⟩⟩
theorem kCa.hq {Γ : Nat → Option Nat} (H : kCa Γ h) (q : hq Z h g) : kCa Γ g := by
  obtain ⟨ca, h1, h2, h3, h4⟩ := H
  have e := q.ar h2
  refine ⟨ca, h1, (yA_c e).mpr h2, (yln_c e).trans h3, fun i hi => ?_⟩
  obtain ⟨o, o1, o2, o3⟩ := h4 i hi
  exact ⟨o, by rw [ylr_c e]; exact o1, q.O o2, by rw [yi_c (q.o o2 (by omega) (by omega))]; exact o3⟩
theorem kLm.hq {Γ : Nat → Option Nat} {la : Nat → Nat} (H : kLm Γ h la) (q : hq Z h g) : kLm Γ g la := fun w hw => ⟨(H w hw).1, q.O (H w hw).2⟩
end HQ
