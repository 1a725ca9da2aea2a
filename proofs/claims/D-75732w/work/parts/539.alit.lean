/-! part 539: the iterator of an ArrayList -/
/-- the list al (row ae) holds F 0 .. F (c - 1) -/
def kAl (h : xH) (al ae c : Nat) (F : Nat → Nat) : Prop := yW h 2 al ∧ yr h 2 1 al = some ae ∧ yB h 5 ae ∧ yln h ae = 4 ∧ yi h 2 2 al = Int32.ofNat c ∧ c ≤ 4 ∧ ∀ t, t < c → ylr h 5 ae t = some (F t)
/-- its iterator it stands before place i -/
def kIa (h : xH) (it al i : Nat) : Prop := yW h 7 it ∧ yi h 7 0 it = Int32.ofNat i ∧ yr h 7 3 it = some al ∧ yi h 7 2 it = yi h 2 0 al
section KIA
variable {Γ : Nat → Option Nat} {h g : xH} {n al ae c it i : Nat} {F : Nat → Nat} {Z : Nat → Prop}
theorem kAl.cg (H : kAl h al ae c F) (e1 : g al = h al) (e2 : g ae = h ae) : kAl g al ae c F := by
  obtain ⟨h1, h2, h3, h4, h5, h6, h7⟩ := H
  exact ⟨(yW_c e1).mpr h1, (yr_c e1).trans h2, (yB_c e2).mpr h3, (yln_c e2).trans h4, (yi_c e1).trans h5, h6, fun t ht => by rw [ylr_c e2]; exact h7 t ht⟩
theorem kAl.hq (H : kAl h al ae c F) (q : hq Z h g) : kAl g al ae c F := H.cg (q.o (yO_of _ _ _ H.1) (by omega) (by omega)) (q.ar (yA_of _ _ _ H.2.2.1))
theorem kIa.cg (H : kIa h it al i) (e1 : g it = h it) (e2 : g al = h al) : kIa g it al i := by
  obtain ⟨h1, h2, h3, h4⟩ := H
  exact ⟨(yW_c e1).mpr h1, (yi_c e1).trans h2, (yr_c e1).trans h3, by rw [yi_c e1, yi_c e2]; exact h4⟩
theorem kIa.hq (H : kIa h it al i) (A : kAl h al ae c F) (hz : ¬ Z it) (q : hq Z h g) : kIa g it al i := H.cg (q.i (yO_of _ _ _ H.1) hz) (q.o (yO_of _ _ _ A.1) (by omega) (by omega))
theorem k_iaNew (A : kAl h al ae c F) (hb : xbd n h) : ∃ g, fJ2_iterator al Γ h n = some (.inl (some n), g, 1, 4) ∧ kIa g n al 0 ∧ hsub h g ∧ xbd (n + 1) g := by
  have im : (-1 : Int32) = -Int32.ofNat 1 := rfl
  have sub : ∀ fs, hsub h (xupd h n (true, .inr (7, fs))) := fun fs => hsub_up (hb n (Nat.le_refl _))
  have oA := yO_of _ _ _ A.1
  let g : xH := xupd h n (true, .inr (7, [.int 0, .int (-1), .int (yi h 2 0 al), va_rf (some al)]))
  have gn : g n = some (true, .inr (7, [.int 0, .int (-1), .int (yi h 2 0 al), va_rf (some al)])) := up_self
  refine ⟨g, ?_, ⟨by unfold yW yhd; rw [gn]; rfl, by unfold yi yv; rw [gn]; rfl, by unfold yr yv; rw [gn]; rfl, ?_⟩, sub _, xbd_up1 hb⟩
  · have w1 : xput 7 3 (some n) (va_rf (some al)) Γ (xupd h n (true, .inr (7, [.int 0, .int 0, .int 0, .null]))) (n + 1) = some (.inl (), xupd h n (true, .inr (7, [.int 0, .int 0, .int 0, va_rf (some al)])), 0, 0) := o1_p (by simp)
    have w2 : xput 7 1 (some n) (.int (-1)) Γ (xupd h n (true, .inr (7, [.int 0, .int 0, .int 0, va_rf (some al)]))) (n + 1) = some (.inl (), xupd h n (true, .inr (7, [.int 0, .int (-1), .int 0, va_rf (some al)])), 0, 0) := o1_p (by simp)
    have r1 : xgR 7 3 (some n) Γ (xupd h n (true, .inr (7, [.int 0, .int (-1), .int 0, va_rf (some al)]))) (n + 1) = some (.inl (some al), xupd h n (true, .inr (7, [.int 0, .int (-1), .int 0, va_rf (some al)])), 0, 0) := o1_gR rfl
    have r2 := e_gI (Γ := Γ) (n := n + 1) (hO oA (sub [.int 0, .int (-1), .int 0, va_rf (some al)])) kn2_0
    rw [yi_c (sub _ _ (yO_at oA))] at r2
    have w3 : xput 7 2 (some n) (.int (yi h 2 0 al)) Γ (xupd h n (true, .inr (7, [.int 0, .int (-1), .int 0, va_rf (some al)]))) (n + 1) = some (.inl (), g, 0, 0) := o1_p (by simp)
    have i1 : fJ20_init n (some al) Γ (xupd h n (true, .inr (7, [.int 0, .int 0, .int 0, .null]))) (n + 1) = some (.inl (), g, 0, 0) := by
      unfold fJ20_init
      rw [x_b1 w1, x_b1 w2, x_b1 r1, x_b1 r2, x_b1 w3]
      rfl
    unfold fJ2_iterator
    rw [x_bc (show xnew 7 [.int 0, .int 0, .int 0, .null] 4 Γ h n = some (.inl n, xupd h n (true, .inr (7, [.int 0, .int 0, .int 0, .null])), 1, 4) from rfl), x_b1 i1]
    rfl
  · rw [yi_c (sub _ _ (yO_at oA))]
    unfold yi yv
    rw [gn]
    rfl
theorem k_iaHas (A : kAl h al ae c F) (I : kIa h it al i) (hi : i ≤ c) : xsel (some it) [(7, fun z => fJ20_hasNext z)] Γ h n = some (.inl (if i = c then Int32.ofNat 0 else Int32.ofNat 1), h, 0, 0) := by
  obtain ⟨h1, h2, h3, h4⟩ := I
  have o := yO_of _ _ _ h1
  have c4 := A.2.2.2.2.2.1
  have g0 := e_gI (Γ := Γ) (n := n) o kn7_0
  have g3 := e_gR (Γ := Γ) (n := n) o kn7_3
  have g2 := e_gI (Γ := Γ) (n := n) (yO_of _ _ _ A.1) kn2_2
  rw [h2] at g0
  rw [h3] at g3
  rw [A.2.2.2.2.1] at g2
  rw [e_sel o]
  unfold fJ20_hasNext
  rw [x_b1 g0, x_b1 g3, x_b1 g2]
  by_cases q : i = c
  · rw [if_pos q, if_pos (by rw [q])]; rfl
  · rw [if_neg q, if_neg (by rw [i_eq (by omega) (by omega)]; exact q)]; rfl
theorem k_iaNext (A : kAl h al ae c F) (I : kIa h it al i) (hi : i < c) : ∃ g, xsel (some it) [(7, fun z => fJ20_next z)] Γ h n = some (.inl (some (F i)), g, 0, 0) ∧ kIa g it al (i + 1) ∧ (∀ a, a ≠ it → g a = h a) ∧ ∀ a, yhd g a = yhd h a := by
  have i1 : (1 : Int32) = Int32.ofNat 1 := rfl
  obtain ⟨h1, h2, h3, h4⟩ := I
  obtain ⟨a1, a2, a3, a4, a5, a6, a7⟩ := A
  have o := yO_of _ _ _ h1
  have oa := yO_of _ _ _ a1
  have ne1 : al ≠ it := fun z => absurd (yO_uq oa (by rw [z]; exact o)) (by omega)
  have ne2 : ae ≠ it := fun z => yA_no (yA_of _ _ _ a3) (by rw [z]; exact o)
  have f1 : ∀ a, a ≠ it → ysi h 7 0 it (Int32.ofNat (i + 1)) a = h a := by
    intro a ha
    obtain ⟨fs, e, hk⟩ := yhd_o h1
    unfold ysi ysv
    rw [e]
    simp only
    split
    · exact up_ne ha
    · rfl
  have h1' : yW (ysi h 7 0 it (Int32.ofNat (i + 1))) 7 it := (yW_sv _ _ _ _ _ _ _).mpr h1
  have f2 : ∀ a, a ≠ it → ysi (ysi h 7 0 it (Int32.ofNat (i + 1))) 7 1 it (Int32.ofNat i) a = ysi h 7 0 it (Int32.ofNat (i + 1)) a := by
    intro a ha
    obtain ⟨fs, e, hk⟩ := yhd_o h1'
    unfold ysi ysv at e ⊢
    rw [e]
    simp only
    split
    · exact up_ne ha
    · rfl
  refine ⟨ysi (ysi h 7 0 it (Int32.ofNat (i + 1))) 7 1 it (Int32.ofNat i), ?_, ⟨(yW_sv _ _ _ _ _ _ _).mpr h1', ?_, ?_, ?_⟩, fun a ha => (f2 a ha).trans (f1 a ha), fun a => (yhd_sv _ _ _ _ _ _).trans (yhd_sv _ _ _ _ _ _)⟩
  · have g0 := e_gI (Γ := Γ) (n := n) o kn7_0
    have g3 := e_gR (Γ := Γ) (n := n) o kn7_3
    have g2 := e_gI (Γ := Γ) (n := n) oa kn2_2
    have gm := e_gI (Γ := Γ) (n := n) oa kn2_0
    have gc := e_gI (Γ := Γ) (n := n) o kn7_2
    have ge := e_gR (Γ := Γ) (n := n) oa kn2_1
    rw [h2] at g0
    rw [h3] at g3
    rw [a5] at g2
    rw [h4] at gc
    rw [a2] at ge
    have gl : xlen (some ae) Γ h n = some (.inl (Int32.ofNat 4), h, 0, 0) := by rw [e_len (yA_of _ _ _ a3), a4]
    have ck : xsel (some it) [(7, fun z => fJ20_checkForComodification z)] Γ h n = some (.inl (), h, 0, 0) := by
      rw [e_sel o]
      unfold fJ20_checkForComodification
      rw [x_b1 g3, x_b1 gm, x_b1 gc, if_pos rfl]
      rfl
    have p1 : xput 7 0 (some it) (.int (Int32.ofNat (i + 1))) Γ h n = some (.inl (), ysi h 7 0 it (Int32.ofNat (i + 1)), 0, 0) := e_put h1 kn7_0
    have p2 : xput 7 1 (some it) (.int (Int32.ofNat i)) Γ (ysi h 7 0 it (Int32.ofNat (i + 1))) n = some (.inl (), ysi (ysi h 7 0 it (Int32.ofNat (i + 1))) 7 1 it (Int32.ofNat i), 0, 0) := e_put h1' kn7_1
    have ee : ysi (ysi h 7 0 it (Int32.ofNat (i + 1))) 7 1 it (Int32.ofNat i) ae = h ae := (f2 ae ne2).trans (f1 ae ne2)
    have l1 : xldR (some ae) (Int32.ofNat i) Γ (ysi (ysi h 7 0 it (Int32.ofNat (i + 1))) 7 1 it (Int32.ofNat i)) n = some (.inl (some (F i)), ysi (ysi h 7 0 it (Int32.ofNat (i + 1))) 7 1 it (Int32.ofNat i), 0, 0) := by
      rw [e_ldR ((yA_c ee).mpr (yA_of _ _ _ a3)) ytk_5 (by omega) (yin_of (by rw [yln_c ee]; omega) (by omega)), i_nat (by omega), ylr_c ee, a7 i hi]
    rw [e_sel o]
    unfold fJ20_next
    rw [x_b1 ck, x_b1 g0, x_b1 g3, x_b1 g2, if_pos (by rw [i_lt (by omega) (by omega)]; omega), x_b1 g3, x_b1 ge, x_b1 gl, if_pos (by rw [i_lt (by omega) (by omega)]; omega), i1, i_add, x_b1 p1, x_b1 p2, x_b1 l1]
    rfl
  · rw [yi_si h1' kn7_1, if_neg (by omega), yi_si h1 kn7_0, if_pos ⟨rfl, rfl, rfl⟩]
  · rw [yr_si h1' kn7_1 _ _ _ (by omega), yr_si h1 kn7_0 _ _ _ (by omega)]; exact h3
  · rw [yi_si h1' kn7_1, if_neg (by omega), yi_si h1 kn7_0, if_neg (by omega), h4, yi_si h1' kn7_1, if_neg (by omega), yi_si h1 kn7_0, if_neg (by omega)]
/-- only the iterator was changed -/
theorem hq_it (H : yO h 7 it) (hz : Z it) (hd : ∀ a, yhd g a = yhd h a) (ne : ∀ a, a ≠ it → g a = h a) : hq Z h g := by
  have no : ∀ c a, c ≠ 7 → yO h c a → g a = h a := fun c a hc ha => ne a (fun z => hc (yO_uq ha (by rw [z]; exact H)))
  refine ⟨fun a _ => hd a, fun a _ h1 _ => ne a (fun z => h1 ⟨by rw [z]; exact hz, Or.inr (by rw [z]; exact H)⟩), fun a ha j _ => yi_c (no 22 a (by omega) ha), fun a ha => ⟨fun j _ _ => yr_c (no 16 a (by omega) ha), fun j _ _ => yi_c (no 16 a (by omega) ha), fun K => ⟨fun s hs => ?_, fun s hs => ?_⟩⟩⟩
  · rw [yr_c (no 16 a (by omega) ha)] at hs
    obtain ⟨k1, k2⟩ := K.1 s hs
    have e' := no 32 s (by omega) k1
    exact ⟨(yO_c e').mpr k1, by rw [yr_c e']; exact k2⟩
  · rw [yr_c (no 16 a (by omega) ha)] at hs
    obtain ⟨k1, k2⟩ := K.2 s hs
    have e' := no 11 s (by omega) k1
    exact ⟨(yO_c e').mpr k1, by rw [yr_c e']; exact k2⟩
theorem hq.wide {Y : Nat → Prop} (q : hq Z h g) (hy : ∀ a, Z a → Y a) : hq Y h g := ⟨q.1, fun a ha h1 h2 => q.2.1 a ha (fun z => h1 ⟨hy a z.1, z.2⟩) h2, q.2.2⟩
/-- what was not there need not be named -/
theorem hq.drop {Y : Nat → Prop} (q : hq Y h g) (hy : ∀ a, Y a → h a ≠ none → Z a) : hq Z h g := ⟨q.1, fun a ha h1 h2 => q.2.1 a ha (fun z => h1 ⟨hy a z.1 ha, z.2⟩) h2, q.2.2⟩
theorem xbd_hd (hb : xbd n h) (hd : ∀ a, yhd g a = yhd h a) : xbd n g := by
  intro a ha
  have := hd a
  unfold yhd at this
  rw [hb a ha] at this
  simpa using this
end KIA
