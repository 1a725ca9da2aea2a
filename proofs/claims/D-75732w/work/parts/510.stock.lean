/-! part 510: the component: a stock (its object st, its cohorts co, its species p with fecundity fe) -/
def kSt (h : xH) (st co p : Nat) : Prop := yW h 24 st ∧ yr h 24 0 st = some p ∧ yr h 24 1 st = some co ∧ yB h 1 co ∧ yln h co = 13
/-- a species as a stock sees it: oldest age o, adult age a -/
def kSp (h : xH) (p fe o a : Nat) : Prop := yO h 20 p ∧ yi h 20 1 p = Int32.ofNat o ∧ yi h 20 3 p = Int32.ofNat a ∧ yr h 20 2 p = some fe ∧ yA h 1 fe ∧ yln h fe = 13 ∧ o ≤ 12 ∧ a ≤ o
theorem isum_acc (f : Nat → Int32) : ∀ (k x : Nat) (v : Int32), v + isum f x (k + 1) = (v + f x) + isum f (x + 1) k := by
  intro k x v
  rw [isum, Int32.add_assoc]
section KS
variable {Γ : Nat → Option Nat} {h : xH} {n st co p fe o a : Nat}
theorem k_total_p13 (hB : yB h 1 co) (hl : yln h co = 13) : ∀ (k x fu : Nat) (v : Int32), x + k = 13 → k < fu → fX10_total_p13 fu v (some co) (Int32.ofNat 13) (Int32.ofNat x) Γ h n = some (.inl (v + isum (yli h 1 co) x k), h, 0, 0) := by
  intro k
  induction k with
  | zero =>
    intro x fu v hx hf
    obtain ⟨fu, rfl⟩ : ∃ g, fu = g + 1 := ⟨fu - 1, by omega⟩
    have c1 : Int32.ofNat 13 ≤ Int32.ofNat x := by rw [i_le (by omega) (by omega)]; omega
    rw [fX10_total_p13, isum]
    simp only [if_pos c1, xpure, i_add0]
  | succ k ih =>
    intro x fu v hx hf
    obtain ⟨fu, rfl⟩ : ∃ g, fu = g + 1 := ⟨fu - 1, by omega⟩
    have c1 : ¬ Int32.ofNat 13 ≤ Int32.ofNat x := by rw [i_le (by omega) (by omega)]; omega
    have e1 : xldI 1 (some co) (Int32.ofNat x) Γ h n = some (.inl (yli h 1 co x), h, 0, 0) := by rw [e_ldI (yA_of _ _ _ hB) ytk_1 (yin_of (by omega) (by omega)), i_nat (by omega)]
    have e2 := ih (x + 1) fu (v + yli h 1 co x) (by omega) (by omega)
    rw [fX10_total_p13, isum_acc]
    simp only [if_neg c1, xbind, xlet, e1, i_ofNat, i_add, e2, Nat.add_zero]
theorem k_total (H : kSt h st co p) : fX10_total st Γ h n = some (.inl (isum (yli h 1 co) 0 13), h, 0, 0) := by
  obtain ⟨h1, h2, h3, h4, h5⟩ := H
  have e1 := k_total_p13 (Γ := Γ) (n := n) h4 h5 13 0 xFU (Int32.ofNat 0) (by omega) (by unfold xFU; omega)
  have e2 : xlen (some co) Γ h n = some (.inl (Int32.ofNat 13), h, 0, 0) := by rw [e_len (yA_of _ _ _ h4), h5]
  rw [i_0add] at e1
  simp only [fX10_total, xbind, xlet, e_gR (yO_of _ _ _ h1) kn24_1, h3, e2, i_ofNat, e1, Nat.add_zero]
theorem k_adults_p10 (H : kSt h st co p) (hp : kSp h p fe o a) : ∀ (k x fu : Nat) (v : Int32), x + k = o + 1 → k < fu → fX10_adults_p10 fu st v (Int32.ofNat x) Γ h n = some (.inl (v + isum (yli h 1 co) x k), h, 0, 0) := by
  obtain ⟨h1, h2, h3, h4, h5⟩ := H
  obtain ⟨p1, p2, p3, p4, p5, p6, p7, p8⟩ := hp
  intro k
  induction k with
  | zero =>
    intro x fu v hx hf
    obtain ⟨fu, rfl⟩ : ∃ g, fu = g + 1 := ⟨fu - 1, by omega⟩
    have c1 : Int32.ofNat o < Int32.ofNat x := by rw [i_lt (by omega) (by omega)]; omega
    rw [fX10_adults_p10, isum]
    simp only [xbind, e_gR (yO_of _ _ _ h1) kn24_0, h2, e_gI p1 kn20_1, p2, if_pos c1, xpure, i_add0, Nat.add_zero]
  | succ k ih =>
    intro x fu v hx hf
    obtain ⟨fu, rfl⟩ : ∃ g, fu = g + 1 := ⟨fu - 1, by omega⟩
    have c1 : ¬ Int32.ofNat o < Int32.ofNat x := by rw [i_lt (by omega) (by omega)]; omega
    have e1 : xldI 1 (some co) (Int32.ofNat x) Γ h n = some (.inl (yli h 1 co x), h, 0, 0) := by rw [e_ldI (yA_of _ _ _ h4) ytk_1 (yin_of (by omega) (by omega)), i_nat (by omega)]
    have e2 := ih (x + 1) fu (v + yli h 1 co x) (by omega) (by omega)
    rw [fX10_adults_p10, isum_acc]
    simp only [xbind, xlet, e_gR (yO_of _ _ _ h1) kn24_0, e_gR (yO_of _ _ _ h1) kn24_1, h2, h3, e_gI p1 kn20_1, p2, if_neg c1, e1, i_ofNat, i_add, e2, Nat.add_zero]
theorem k_adults (H : kSt h st co p) (hp : kSp h p fe o a) : fX10_adults st Γ h n = some (.inl (isum (yli h 1 co) a (o + 1 - a)), h, 0, 0) := by
  have hp' := hp
  obtain ⟨p1, p2, p3, p4, p5, p6, p7, p8⟩ := hp
  have e1 := k_adults_p10 (Γ := Γ) (n := n) H hp' (o + 1 - a) a xFU (Int32.ofNat 0) (by omega) (by unfold xFU; omega)
  rw [i_0add] at e1
  obtain ⟨h1, h2, h3, h4, h5⟩ := H
  simp only [fX10_adults, xbind, xlet, e_gR (yO_of _ _ _ h1) kn24_0, h2, e_gI p1 kn20_3, p3, i_ofNat, e1, Nat.add_zero]
end KS
/-- ages above x, up to o, are filled out of the ages below them -/
def kSh (f v : Nat → Int32) (o x : Nat) : Nat → Int32 := fun j => if x < j ∧ j ≤ o then pGone (f (j - 1)) (v (j - 1)) else f j
def kG (f v : Nat → Int32) (j : Nat) : Int32 := pGone (f (j - 1)) (v (j - 1))
def kBear (f v w : Nat → Int32) (j : Nat) : Int64 := (kG f v j).toInt64 * (w j).toInt64
def kBorn (B : Int64) (room u : Int32) : Int64 := if room ≤ Int32.ofNat 0 then jmin 1000000 (B / 1000) else jmax 0 (jmin (jmin 1000000 (B / 1000)) (room - u).toInt64)
/-- a stock's year: survivors, births, cohorts -/
def kU (f v : Nat → Int32) (o : Nat) : Int32 := isum (kG f v) 1 o
def kB (f v w : Nat → Int32) (o : Nat) (room : Int32) : Int32 := (kBorn (jsum (kBear f v w) 1 o) room (kU f v o)).toInt32
def kC (f v w : Nat → Int32) (o : Nat) (room : Int32) : Nat → Int32 := va_up (kSh f v o 0) 0 (kB f v w o room)
theorem kSh_o {f v : Nat → Int32} {o : Nat} : kSh f v o o = f := by
  funext j
  unfold kSh
  rw [if_neg (by omega)]
theorem kSh_step {f v : Nat → Int32} {o x : Nat} (hx : x + 1 ≤ o) : va_up (kSh f v o (x + 1)) (x + 1) (kG f v (x + 1)) = kSh f v o x := by
  funext j
  rw [va_ap]
  unfold kSh kG
  by_cases c : j = x + 1
  · subst c
    rw [if_pos rfl, if_pos (by omega)]
  · rw [if_neg c]
    by_cases d : x + 1 < j ∧ j ≤ o
    · rw [if_pos d, if_pos (by omega)]
    · rw [if_neg d, if_neg (by omega)]
theorem kSh_low {f v : Nat → Int32} {o x j : Nat} (h : j ≤ x) : kSh f v o x j = f j := by
  unfold kSh
  rw [if_neg (by omega)]
/-! the getters see one cell -/
theorem yhd_c {h g : xH} {q : Nat} (e : g q = h q) : yhd g q = yhd h q := by unfold yhd; rw [e]
theorem yO_c {h g : xH} {q c : Nat} (e : g q = h q) : yO g c q ↔ yO h c q := by unfold yO; rw [yhd_c e]
theorem yW_c {h g : xH} {q c : Nat} (e : g q = h q) : yW g c q ↔ yW h c q := by unfold yW; rw [yhd_c e]
theorem yA_c {h g : xH} {q c : Nat} (e : g q = h q) : yA g c q ↔ yA h c q := by unfold yA; rw [yhd_c e]
theorem yB_c {h g : xH} {q c : Nat} (e : g q = h q) : yB g c q ↔ yB h c q := by unfold yB; rw [yhd_c e]
theorem yln_c {h g : xH} {q : Nat} (e : g q = h q) : yln g q = yln h q := by unfold yln; rw [yhd_c e]
theorem yi_c {h g : xH} {q c k : Nat} (e : g q = h q) : yi g c k q = yi h c k q := by unfold yi yv; rw [e]
theorem yj_c {h g : xH} {q c k : Nat} (e : g q = h q) : yj g c k q = yj h c k q := by unfold yj yv; rw [e]
theorem yr_c {h g : xH} {q c k : Nat} (e : g q = h q) : yr g c k q = yr h c k q := by unfold yr yv; rw [e]
theorem yli_c {h g : xH} {q t : Nat} (e : g q = h q) : yli g t q = yli h t q := by unfold yli yc; rw [e]
theorem ylr_c {h g : xH} {q t : Nat} (e : g q = h q) : ylr g t q = ylr h t q := by unfold ylr yc; rw [e]
theorem up_self {h : xH} {a : Nat} {c : xAC} : xupd h a c a = some c := by unfold xupd; rw [if_pos rfl]
theorem up_ne {h : xH} {a q : Nat} {c : xAC} (e : q ≠ a) : xupd h a c q = h q := by unfold xupd; rw [if_neg e]
theorem up_up {h : xH} {a : Nat} {c d : xAC} : xupd (xupd h a c) a d = xupd h a d := by
  funext q
  unfold xupd
  by_cases e : q = a
  · rw [if_pos e, if_pos e]
  · rw [if_neg e, if_neg e, if_neg e]
theorem up_comm {h : xH} {a b : Nat} {c d : xAC} (e : a ≠ b) : xupd (xupd h a c) b d = xupd (xupd h b d) a c := by
  funext q
  unfold xupd
  by_cases ea : q = a
  · subst ea
    rw [if_neg e, if_pos rfl, if_pos rfl]
  · rw [if_neg ea, if_neg ea]
theorem up_id {h : xH} {a : Nat} {c : xAC} (e : h a = some c) : xupd h a c = h := by
  funext q
  unfold xupd
  by_cases ea : q = a
  · subst ea
    rw [if_pos rfl, e]
  · rw [if_neg ea]
/-- different classes, different places -/
theorem yO_ne {h : xH} {c d a b : Nat} (h1 : yO h c a) (h2 : yO h d b) (e : c ≠ d) : a ≠ b := by
  rintro rfl
  obtain ⟨w, h1⟩ := h1
  obtain ⟨v, h2⟩ := h2
  rw [h1] at h2
  cases h2
  exact e rfl
theorem yOA_ne {h : xH} {c t a b : Nat} (h1 : yO h c a) (h2 : yA h t b) : a ≠ b := by
  rintro rfl
  obtain ⟨w, h1⟩ := h1
  obtain ⟨v, n, h2⟩ := h2
  rw [h1] at h2
  cases h2
theorem yA_ne {h : xH} {t u a b : Nat} (h1 : yA h t a) (h2 : yA h u b) (e : t ≠ u) : a ≠ b := by
  rintro rfl
  obtain ⟨w, n, h1⟩ := h1
  obtain ⟨v, m, h2⟩ := h2
  rw [h1] at h2
  cases h2
  exact e rfl
theorem yln_ne {h : xH} {a b : Nat} (e : yln h a ≠ yln h b) : a ≠ b := by
  rintro rfl
  exact e rfl
/-- a stock's cells -/
def kS (h : xH) (st co p : Nat) (f : Nat → Int32) (u b : Int32) : xH := xupd (xupd h st (true, .inr (24, [.ref p, .ref co, .int u, .int b]))) co (true, .inl (1, 13, .inl f))
theorem kSt.ne {h : xH} {st co p : Nat} (H : kSt h st co p) : st ≠ co := yOA_ne (yO_of _ _ _ H.1) (yA_of _ _ _ H.2.2.2.1)
theorem kSt.eq {h : xH} {st co p : Nat} (H : kSt h st co p) : h = kS h st co p (yli h 1 co) (yi h 24 2 st) (yi h 24 3 st) := by
  obtain ⟨h1, h2, h3, h4, h5⟩ := H
  obtain ⟨fs, hc, hm⟩ := yhd_o h1
  obtain ⟨N, x, ha, hk, hl, hx⟩ := yarrB h4
  rw [h5] at hl
  subst hl
  have hkk : (ykn 24) = [3, 3, 0, 0] := rfl
  rw [hkk] at hm
  obtain ⟨a, b, c, d, rfl⟩ : ∃ a b c d, fs = [a, b, c, d] := by
    have hl := congrArg List.length hm
    rw [List.length_map] at hl
    rcases fs with _ | ⟨a, _ | ⟨b, _ | ⟨c, _ | ⟨d, _ | ⟨e, fs⟩⟩⟩⟩⟩
    · cases hl
    · cases hl
    · cases hl
    · cases hl
    · exact ⟨a, b, c, d, rfl⟩
    · simp at hl
  simp only [List.map_cons, List.map_nil, List.cons.injEq, and_true] at hm
  obtain ⟨k0, k1, k2, k3⟩ := hm
  have e0 : a = .ref p := by
    unfold yr yv at h2
    rw [hc] at h2
    revert h2 k0
    cases a <;> simp [ykd, yvR]
  have e1 : b = .ref co := by
    unfold yr yv at h3
    rw [hc] at h3
    revert h3 k1
    cases b <;> simp [ykd, yvR]
  have e2 : c = .int (yi h 24 2 st) := by
    unfold yi yv
    rw [hc]
    revert k2
    cases c <;> simp [ykd, yvI]
  have e3 : d = .int (yi h 24 3 st) := by
    unfold yi yv
    rw [hc]
    revert k3
    cases d <;> simp [ykd, yvI]
  have e4 : x = .inl (yli h 1 co) := by
    unfold yli
    rw [hx]
    revert hk
    rcases x with f | f | f | f | f <;> simp [ykc, ytk, ycI]
  unfold kS
  rw [← e0, ← e1, ← e2, ← e3, ← e4, up_id hc, up_id ha]
section KO
variable {Γ : Nat → Option Nat} {h : xH} {n st co p : Nat} {f : Nat → Int32} {u b : Int32}
theorem ks_1 (d : st ≠ co) : kS h st co p f u b st = some (true, .inr (24, [.ref p, .ref co, .int u, .int b])) := by unfold kS; rw [up_ne d, up_self]
theorem ks_2 : kS h st co p f u b co = some (true, .inl (1, 13, .inl f)) := by unfold kS; rw [up_self]
theorem ks_o {q : Nat} (h1 : q ≠ st) (h2 : q ≠ co) : kS h st co p f u b q = h q := by unfold kS; rw [up_ne h2, up_ne h1]
theorem ks_obj (d : st ≠ co) : xobj (kS h st co p f u b) (some st) = some (st, 24, [.ref p, .ref co, .int u, .int b]) := by unfold xobj; simp only [ks_1 d]
theorem ks_g0 (d : st ≠ co) : xgR 24 0 (some st) Γ (kS h st co p f u b) n = some (.inl (some p), kS h st co p f u b, 0, 0) := by unfold xgR xget; rw [ks_obj d]; rfl
theorem ks_g1 (d : st ≠ co) : xgR 24 1 (some st) Γ (kS h st co p f u b) n = some (.inl (some co), kS h st co p f u b, 0, 0) := by unfold xgR xget; rw [ks_obj d]; rfl
theorem ks_g2 (d : st ≠ co) : xgI 24 2 (some st) Γ (kS h st co p f u b) n = some (.inl u, kS h st co p f u b, 0, 0) := by unfold xgI xget; rw [ks_obj d]; rfl
theorem ks_g3 (d : st ≠ co) : xgI 24 3 (some st) Γ (kS h st co p f u b) n = some (.inl b, kS h st co p f u b, 0, 0) := by unfold xgI xget; rw [ks_obj d]; rfl
theorem ks_p2 (d : st ≠ co) {v : Int32} : xput 24 2 (some st) (.int v) Γ (kS h st co p f u b) n = some (.inl (), kS h st co p f v b, 0, 0) := by
  unfold xput
  simp only [ks_1 d]
  rw [if_pos ⟨trivial, by simp⟩]
  unfold kS
  rw [up_comm d.symm, up_up]
  rfl
theorem ks_p3 (d : st ≠ co) {v : Int32} : xput 24 3 (some st) (.int v) Γ (kS h st co p f u b) n = some (.inl (), kS h st co p f u v, 0, 0) := by
  unfold xput
  simp only [ks_1 d]
  rw [if_pos ⟨trivial, by simp⟩]
  unfold kS
  rw [up_comm d.symm, up_up]
  rfl
theorem ks_l {i : Nat} (hi : i < 13) : xldI 1 (some co) (Int32.ofNat i) Γ (kS h st co p f u b) n = some (.inl (f i), kS h st co p f u b, 0, 0) := by
  have h1 : i < 2147483648 := by omega
  unfold xldI xarr
  simp only [ks_2]
  rw [if_pos ⟨trivial, by rw [i_nat h1]; rintro (q | q); exact i_nonneg h1 q; omega⟩, i_nat h1]
theorem ks_s {i : Nat} {v : Int32} (hi : i < 13) : xstI 1 (some co) (Int32.ofNat i) v Γ (kS h st co p f u b) n = some (.inl (), kS h st co p (va_up f i v) u b, 0, 0) := by
  have h1 : i < 2147483648 := by omega
  unfold xstI
  simp only [ks_2]
  rw [if_pos ⟨trivial, by rw [i_nat h1]; rintro (q | q); exact i_nonneg h1 q; omega⟩, i_nat h1]
  unfold kS
  rw [up_up]
theorem ks_sel (d : st ≠ co) {α : Type} {g : Nat → xM α} : xsel (some st) [(24, g)] Γ (kS h st co p f u b) n = g st Γ (kS h st co p f u b) n := by
  unfold xsel
  rw [ks_obj d]
  rfl
theorem ks_St (d : st ≠ co) : kSt (kS h st co p f u b) st co p := by
  refine ⟨?_, ?_, ?_, ⟨13, ?_⟩, ?_⟩
  · unfold yW yhd; rw [ks_1 d]; rfl
  · unfold yr yv; rw [ks_1 d]; rfl
  · unfold yr yv; rw [ks_1 d]; rfl
  · unfold yhd; rw [ks_2]; rfl
  · unfold yln yhd; rw [ks_2]; rfl
theorem ks_li : yli (kS h st co p f u b) 1 co = f := by unfold yli yc; rw [ks_2]; rfl
end KO
section KC
variable {Γ : Nat → Option Nat} {h : xH} {n st co p fe o a sv : Nat} {f v : Nat → Int32} {u b room : Int32}
theorem k_close_p16 (d : st ≠ co) (hp : kSp h p fe o a) (hv : yA h 1 sv) (hvl : yln h sv = 13) (p1 : p ≠ st) (p2 : p ≠ co) (q1 : fe ≠ st) (q2 : fe ≠ co) (r1 : sv ≠ st) (r2 : sv ≠ co) : ∀ (x fu : Nat), x ≤ o → x < fu →
    fX10_close_p16 fu st (some sv) room (jsum (kBear f (yli h 1 sv) (yli h 1 fe)) (x + 1) (o - x)) (Int32.ofNat x) Γ (kS h st co p (kSh f (yli h 1 sv) o x) (isum (kG f (yli h 1 sv)) (x + 1) (o - x)) b) n = some (.inl (), kS h st co p (kC f (yli h 1 sv) (yli h 1 fe) o room) (kU f (yli h 1 sv) o) (kB f (yli h 1 sv) (yli h 1 fe) o room), 0, 0) := by
  obtain ⟨s1, s2, s3, s4, s5, s6, s7, s8⟩ := hp
  have z1000 : ¬ (1000 : Int64) = 0 := by decide
  intro x
  induction x with
  | zero =>
    intro fu hx hf
    obtain ⟨fu, rfl⟩ : ∃ g, fu = g + 1 := ⟨fu - 1, by omega⟩
    have c1 : Int32.ofNat 0 ≤ Int32.ofNat 0 := by decide
    rw [fX10_close_p16]
    unfold kC kB kBorn kU
    by_cases c2 : room ≤ Int32.ofNat 0
    · simp only [i_ofNat, if_pos c1, xdvJ, if_neg z1000, xbind, i_jm, if_pos c2, fX10_close_p128, ks_p3 d, ks_g1 d, ks_g3 d, ks_s (show 0 < 13 by omega), xpure, Nat.add_zero, Nat.zero_add, Nat.sub_zero]
    · simp only [i_ofNat, if_pos c1, xdvJ, if_neg z1000, xbind, i_jm, i_jx, if_neg c2, ks_g2 d, fX10_close_p128, ks_p3 d, ks_g1 d, ks_g3 d, ks_s (show 0 < 13 by omega), xpure, Nat.add_zero, Nat.zero_add, Nat.sub_zero]
  | succ x ih =>
    intro fu hx hf
    obtain ⟨fu, rfl⟩ : ∃ g, fu = g + 1 := ⟨fu - 1, by omega⟩
    have c1 : ¬ Int32.ofNat (x + 1) ≤ Int32.ofNat 0 := by rw [i_le (by omega) (by omega)]; omega
    have sb : Int32.ofNat (x + 1) - Int32.ofNat 1 = Int32.ofNat x := i_sub (by omega)
    have sm : Int32.ofNat (x + 1) + -Int32.ofNat 1 = Int32.ofNat x := by rw [← Int32.sub_eq_add_neg]; exact sb
    have e1 : ∀ (g : Nat → Int32) (u b : Int32), xldI 1 (some sv) (Int32.ofNat x) Γ (kS h st co p g u b) n = some (.inl (yli h 1 sv x), kS h st co p g u b, 0, 0) := by
      intro g u b
      have hc := ks_o (h := h) (p := p) (f := g) (u := u) (b := b) r1 r2
      rw [e_ldI ((yA_c hc).mpr hv) ytk_1 (yin_of (by rw [yln_c hc]; omega) (by omega)), i_nat (by omega), yli_c hc]
    have e2 : ∀ (g : Nat → Int32) (u b : Int32), xgR 20 2 (some p) Γ (kS h st co p g u b) n = some (.inl (some fe), kS h st co p g u b, 0, 0) := by
      intro g u b
      have hc := ks_o (h := h) (p := p) (f := g) (u := u) (b := b) p1 p2
      rw [e_gR ((yO_c hc).mpr s1) kn20_2, yr_c hc, s4]
    have e3 : ∀ (g : Nat → Int32) (u b : Int32), xldI 1 (some fe) (Int32.ofNat (x + 1)) Γ (kS h st co p g u b) n = some (.inl (yli h 1 fe (x + 1)), kS h st co p g u b, 0, 0) := by
      intro g u b
      have hc := ks_o (h := h) (p := p) (f := g) (u := u) (b := b) q1 q2
      rw [e_ldI ((yA_c hc).mpr s5) ytk_1 (yin_of (by rw [yln_c hc]; omega) (by omega)), i_nat (by omega), yli_c hc]
    have e4 := ih fu (by omega) (by omega)
    have g1 : kSh f (yli h 1 sv) o (x + 1) x = f x := kSh_low (by omega)
    have g2 : ((f x).toInt64 * (yli h 1 sv x).toInt64 / (1000 : Int64)).toInt32 = kG f (yli h 1 sv) (x + 1) := rfl
    have o1 : o - x = (o - (x + 1)) + 1 := by omega
    have g3 : isum (kG f (yli h 1 sv)) (x + 1 + 1) (o - (x + 1)) + kG f (yli h 1 sv) (x + 1) = isum (kG f (yli h 1 sv)) (x + 1) (o - x) := by rw [o1, isum, Int32.add_comm]
    have g4 : jsum (kBear f (yli h 1 sv) (yli h 1 fe)) (x + 1 + 1) (o - (x + 1)) + (kG f (yli h 1 sv) (x + 1)).toInt64 * (yli h 1 fe (x + 1)).toInt64 = jsum (kBear f (yli h 1 sv) (yli h 1 fe)) (x + 1) (o - x) := by rw [o1, jsum, Int64.add_comm]; rfl
    rw [fX10_close_p16]
    simp only [i_ofNat, if_neg c1, xbind, xlet, ks_g0 d, ks_g1 d, ks_g2 d, sb, ks_l (show x < 13 by omega), ks_l (show x + 1 < 13 by omega), g1, e1, xdvJ, if_neg z1000, g2, ks_s (show x + 1 < 13 by omega), kSh_step hx, ks_p2 d, e2, e3, sm, Nat.add_zero]
    have g5 : kSh f (yli h 1 sv) o x (x + 1) = kG f (yli h 1 sv) (x + 1) := by unfold kSh kG; rw [if_pos (by omega)]
    simp only [g5, g3, g4, e4, Nat.add_zero]
theorem k_close (d : st ≠ co) (hp : kSp h p fe o a) (hv : yA h 1 sv) (hvl : yln h sv = 13) (p1 : p ≠ st) (p2 : p ≠ co) (q1 : fe ≠ st) (q2 : fe ≠ co) (r1 : sv ≠ st) (r2 : sv ≠ co) : fX10_close st (some sv) room Γ (kS h st co p f u b) n = some (.inl (), kS h st co p (kC f (yli h 1 sv) (yli h 1 fe) o room) (kU f (yli h 1 sv) o) (kB f (yli h 1 sv) (yli h 1 fe) o room), 0, 0) := by
  have e1 := k_close_p16 (Γ := Γ) (n := n) (f := f) (b := b) (room := room) d hp hv hvl p1 p2 q1 q2 r1 r2 o xFU (Nat.le_refl _) (by have := hp.2.2.2.2.2.2.1; unfold xFU; omega)
  rw [Nat.sub_self, kSh_o, isum, jsum] at e1
  obtain ⟨s1, s2, s3, s4, s5, s6, s7, s8⟩ := hp
  have e2 : ∀ (g : Nat → Int32) (u b : Int32), xgI 20 1 (some p) Γ (kS h st co p g u b) n = some (.inl (Int32.ofNat o), kS h st co p g u b, 0, 0) := by
    intro g u b
    have hc := ks_o (h := h) (p := p) (f := g) (u := u) (b := b) p1 p2
    rw [e_gI ((yO_c hc).mpr s1) kn20_1, yi_c hc, s2]
  simp only [fX10_close, xbind, xlet, i_ofNat, ks_p2 d, ks_g0 d, e2, e1, Nat.add_zero]
end KC
