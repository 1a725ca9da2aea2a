/-! part 469: the pure parser: lines -/
abbrev gTs : Type := Nat → List (Nat × Int32)
abbrev gL : Type := gX (Nat × (Nat → Int32) × gTs)
/-- numbers by ages, from place c on -/
def gRow (T : Nat → Int32) (len o c most : Nat) : Nat → Nat → Nat → (Nat → Int32) → gX (Nat × (Nat → Int32))
  | 0, _, _, _ => .inl (0, 0)
  | g + 1, x, p, N =>
    if pAt T len (gBl T len p) (Int32.ofNat 48) (Int32.ofNat 57) = true ∧ o < x then .inl (gBl T len p, 5)
    else match gNum T len 0 most (gBl T len p) with
      | .inl e => .inl e
      | .inr (v, p2) => if pAt T len (gBl T len p2) (Int32.ofNat 48) (Int32.ofNat 57) = true then gRow T len o c most g (x + 1) (gBl T len p2) (va_up N (c + x) (Int32.ofNat v)) else .inr (gBl T len p2, va_up N (c + x) (Int32.ofNat v))
/-- a name's number -/
def gNc (T : Nat → Int32) : Nat → Nat → Nat → Nat
  | _, 0, v => v
  | q, k + 1, v => gNc T (q + 1) k (27 * v + (nn (T q) - 96))
/-- a new species: name v, oldest age o -/
def gNew (N : Nat → Int32) (v o : Nat) : Nat → Int32 := fun j =>
  if j = 0 then Int32.ofNat (nn (N 0) + 1) else if zI (nn (N 0)) 13 ≤ j ∧ j < zI (nn (N 0)) 26 then Int32.ofNat 500 else if j = zI (nn (N 0)) 2 then Int32.ofNat 1 else if j = zI (nn (N 0)) 1 then Int32.ofNat o else if j = zI (nn (N 0)) 0 then Int32.ofNat v else N j
def gSpec (T : Nat → Int32) (len q e : Nat) (N : Nat → Int32) (TS : gTs) : gL :=
  if nn (N 0) < 4 then
    (if 1 ≤ gWE T len (gBl T len e) - gBl T len e ∧ gWE T len (gBl T len e) - gBl T len e ≤ 6 then
      (if pNd N (Int32.ofNat (gNc T (gBl T len e) (gWE T len (gBl T len e) - gBl T len e) 0)) 0 (nn (N 0)) = none then
        (match gNum T len 1 12 (gWE T len (gBl T len e)) with
          | .inl e => .inl e
          | .inr (o, p2) => .inr (p2, gNew N (gNc T (gBl T len e) (gWE T len (gBl T len e) - gBl T len e) 0) o, va_up TS (nn (N 0)) []))
      else .inl (gBl T len e, 3))
    else .inl (gBl T len e, 1))
  else .inl (q, 5)
def gRowL (T : Nat → Int32) (len s w most p : Nat) (N : Nat → Int32) (TS : gTs) : gL := match gRow T len (nn (N (zI s 1))) (zI s w) most (len + 1) 0 p N with
  | .inl e => .inl e
  | .inr (p2, M) => .inr (p2, M, TS)
def gNumL (T : Nat → Int32) (len j lo hi p : Nat) (N : Nat → Int32) (TS : gTs) : gL := match gNum T len lo hi p with
  | .inl e => .inl e
  | .inr (v, p2) => .inr (p2, va_up N j (Int32.ofNat v), TS)
def gAll (T : Nat → Int32) (len s p : Nat) (N : Nat → Int32) (TS : gTs) : gL := match gSumD T len 40 0 p with
  | .inl e => .inl e
  | .inr (p2, ts) => .inr (p2, N, va_up TS s ts)
/-- a line for species s -/
def gOfS (T : Nat → Int32) (len s q : Nat) (N : Nat → Int32) (TS : gTs) : gL :=
  if gWd T len w_survive q = true then gRowL T len s 13 1000 (q + 7) N TS
  else if gWd T len w_bear q = true then gRowL T len s 26 9999 (q + 4) N TS
  else if gWd T len w_count q = true then gRowL T len s 39 99999 (q + 5) N TS
  else if gWd T len w_adult q = true then gNumL T len (zI s 2) 0 (nn (N (zI s 1))) (q + 5) N TS
  else if gWd T len w_room q = true then gNumL T len (zI s 3) 1 99999 (q + 4) N TS
  else if gWd T len w_allow q = true then gAll T len s (q + 5) N TS
  else .inl (q, 1)
def gOf (T : Nat → Int32) (len q : Nat) (N : Nat → Int32) (TS : gTs) : gL := if nn (N 0) = 0 then .inl (q, 1) else gOfS T len (nn (N 0) - 1) q N TS
def gLine (T : Nat → Int32) (len q : Nat) (N : Nat → Int32) (TS : gTs) : gL :=
  if gWd T len w_year q = true then gNumL T len 1 0 9999 (q + 4) N TS
  else if gWd T len w_species q = true then gSpec T len q (q + 7) N TS
  else gOf T len q N TS
def gParse (T : Nat → Int32) (len : Nat) : Nat → Nat → (Nat → Int32) → gTs → gL
  | 0, _, _, _ => .inl (0, 0)
  | g + 1, p, N, TS => if len ≤ p then .inr (p, N, TS) else match gLine T len p N TS with
    | .inl e => .inl e
    | .inr (p2, N2, TS2) => match gSg T len 59 p2 with
      | .inl e => .inl e
      | .inr p3 => gParse T len g (gBl T len p3) N2 TS2
def gLoad (T : Nat → Int32) (len : Nat) : gL := gParse T len (len + 1) (gBl T len 0) (fun _ => Int32.ofNat 0) (fun _ => [])
/-! what is right while a text is read -/
def wfF (ts : List (Nat × Int32)) : Prop := (ts = [] ∨ wfT ts) ∧ tlen ts ≤ 1400
def rdN (N : Nat → Int32) (TS : gTs) : Prop := okN N ∧ N 2 = Int32.ofNat 0 ∧ N 3 = Int32.ofNat 0 ∧ ∀ s, s < nn (N 0) → wfF (TS s) ∧ 1 ≤ nn (N (zI s 1))
def gOkL (len p : Nat) (r : gL) : Prop := match r with
  | .inl e => e.1 ≤ len ∧ e.2 ≤ 5
  | .inr (p2, N, TS) => p < p2 ∧ p2 ≤ len ∧ rdN N TS
theorem gNum_erk {T : Nat → Int32} {len lo hi p : Nat} {e : Nat × Nat} (hp : p ≤ len) (h : gNum T len lo hi p = .inl e) : e.1 ≤ len ∧ e.2 ≤ 5 := by
  refine ⟨gNum_er hp h, ?_⟩
  unfold gNum at h
  split at h
  · split at h
    · cases h
    · cases h; show 2 ≤ 5; decide
  · cases h; show 1 ≤ 5; decide
/-- right again: only numbers of species from the third on have changed -/
theorem rdN.congr {N M : Nat → Int32} {TS : gTs} (h : rdN N TS) (h1 : ∀ j, j < 64 → M j = N j) (h2 : ∀ s, s < 4 → M (zI s 1) = N (zI s 1) ∧ M (zI s 2) = N (zI s 2)) : rdN M TS := by
  obtain ⟨a, b, c, d⟩ := h
  refine ⟨a.congr h1 h2, by rw [h1 2 (by decide)]; exact b, by rw [h1 3 (by decide)]; exact c, fun s hs => ?_⟩
  rw [h1 0 (by decide)] at hs
  have := a.2.1
  rw [(h2 s (by omega)).1]
  exact d s hs
theorem gRow_ok {T : Nat → Int32} {len o s w most : Nat} {TS : gTs} (ho : o ≤ 12) (hs : s < 4) (hw : 13 ≤ w ∧ w ≤ 39) : ∀ (g x p : Nat) (N : Nat → Int32), len < p + g → p ≤ len → (x ≤ o ∨ pAt T len (gBl T len p) (Int32.ofNat 48) (Int32.ofNat 57) = true) → rdN N TS → match gRow T len o (zI s w) most g x p N with
    | .inl e => e.1 ≤ len ∧ e.2 ≤ 5
    | .inr (p2, M) => p < p2 ∧ p2 ≤ len ∧ rdN M TS := by
  intro g
  induction g with
  | zero => intro x p N h1 h2; omega
  | succ g ih =>
    intro x p N h1 h2 hx hr
    have q0 := gBl_ge (T := T) (len := len) (p := p)
    have q1 := gBl_le (T := T) h2
    rw [gRow]
    by_cases hc : pAt T len (gBl T len p) (Int32.ofNat 48) (Int32.ofNat 57) = true ∧ o < x
    · rw [if_pos hc]
      exact ⟨q1, by show 5 ≤ 5; decide⟩
    · rw [if_neg hc]
      have hx : x ≤ o := by
        rcases hx with hx | hx
        · exact hx
        · exact Nat.le_of_not_lt (fun z => hc ⟨hx, z⟩)
      cases hn : gNum T len 0 most (gBl T len p) with
      | inl e => exact gNum_erk q1 hn
      | inr r =>
        obtain ⟨v, p2⟩ := r
        have a := gNum_ok q1 hn
        have r0 := gBl_ge (T := T) (len := len) (p := p2)
        have r1 := gBl_le (T := T) a.2.1
        have hr2 : rdN (va_up N (zI s w + x) (Int32.ofNat v)) TS := hr.congr (fun j hj => va_up_ne _ _ (by unfold zI; omega)) (fun t ht => ⟨va_up_ne _ _ (by unfold zI; omega), va_up_ne _ _ (by unfold zI; omega)⟩)
        dsimp only
        by_cases hd : pAt T len (gBl T len p2) (Int32.ofNat 48) (Int32.ofNat 57) = true
        · rw [if_pos hd]
          have := ih (x + 1) (gBl T len p2) (va_up N (zI s w + x) (Int32.ofNat v)) (by omega) r1 (Or.inr (by rw [gBl_idem]; exact hd)) hr2
          revert this
          cases gRow T len o (zI s w) most g (x + 1) (gBl T len p2) (va_up N (zI s w + x) (Int32.ofNat v)) with
          | inl e => exact id
          | inr r => exact fun z => ⟨by have := z.1; omega, z.2⟩
        · rw [if_neg hd]
          exact ⟨by omega, r1, hr2⟩
theorem gRowL_ok {T : Nat → Int32} {len s w most p : Nat} {N : Nat → Int32} {TS : gTs} (hw : 13 ≤ w ∧ w ≤ 39) (hp : p ≤ len) (hr : rdN N TS) (hs : s < nn (N 0)) : gOkL len p (gRowL T len s w most p N TS) := by
  have ho := (hr.1.2.2.2.2.2.2.2.2.1 s hs).2.1
  have h4 := hr.1.2.1
  have := gRow_ok (T := T) (len := len) (o := nn (N (zI s 1))) (s := s) (w := w) (most := most) (TS := TS) ho (by omega) hw (len + 1) 0 p N (by omega) hp (Or.inl (Nat.zero_le _)) hr
  unfold gRowL
  revert this
  cases gRow T len (nn (N (zI s 1))) (zI s w) most (len + 1) 0 p N with
  | inl e => exact id
  | inr r => exact id
theorem gNumL_ok {T : Nat → Int32} {len j lo hi p : Nat} {N : Nat → Int32} {TS : gTs} (hp : p ≤ len) (hr : ∀ v, lo ≤ v → v ≤ hi → rdN (va_up N j (Int32.ofNat v)) TS) : gOkL len p (gNumL T len j lo hi p N TS) := by
  unfold gNumL
  cases hn : gNum T len lo hi p with
  | inl e => exact gNum_erk hp hn
  | inr r =>
    obtain ⟨v, p2⟩ := r
    have a := gNum_ok hp hn
    exact ⟨a.1, a.2.1, hr v a.2.2.1 a.2.2.2⟩
theorem gAll_ok {T : Nat → Int32} {len s p : Nat} {N : Nat → Int32} {TS : gTs} (h9 : len ≤ 900) (hp : p ≤ len) (hr : rdN N TS) : gOkL len p (gAll T len s p N TS) := by
  unfold gAll
  have := gSumD_ok (T := T) (len := len) 40 0 p hp
  revert this
  cases gSumD T len 40 0 p with
  | inl e => exact id
  | inr r =>
    obtain ⟨p2, ts⟩ := r
    rintro ⟨a, b, c, d⟩
    refine ⟨a, b, hr.1, hr.2.1, hr.2.2.1, fun t ht => ⟨?_, (hr.2.2.2 t ht).2⟩⟩
    by_cases hc : t = s
    · subst hc
      rw [va_up_self]
      exact ⟨Or.inr c, by omega⟩
    · rw [va_up_ne _ _ hc]
      exact (hr.2.2.2 t ht).1
theorem gNew_rd {N : Nat → Int32} {TS : gTs} {v o : Nat} (hr : rdN N TS) (h4 : nn (N 0) < 4) (h1 : 1 ≤ o) (h2 : o ≤ 12) : rdN (gNew N v o) (va_up TS (nn (N 0)) []) := by
  obtain ⟨⟨a1, a2, a3, a4, a5, a6, a7, a8, a9, a10⟩, b, c, d⟩ := hr
  have g0 : gNew N v o 0 = Int32.ofNat (nn (N 0) + 1) := if_pos rfl
  have gl : ∀ j, 1 ≤ j → j < 64 → gNew N v o j = N j := by
    intro j h1 h2
    unfold gNew zI
    rw [if_neg (by omega), if_neg (by omega), if_neg (by omega), if_neg (by omega), if_neg (by omega)]
  have go : ∀ s k, s < nn (N 0) → k < 132 → gNew N v o (zI s k) = N (zI s k) := by
    intro s k h1 h2
    unfold gNew zI
    rw [if_neg (by omega), if_neg (by omega), if_neg (by omega), if_neg (by omega), if_neg (by omega)]
  have g1 : gNew N v o (zI (nn (N 0)) 1) = Int32.ofNat o := by
    unfold gNew zI
    rw [if_neg (by omega), if_neg (by omega), if_neg (by omega), if_pos rfl]
  have g2 : gNew N v o (zI (nn (N 0)) 2) = Int32.ofNat 1 := by
    unfold gNew zI
    rw [if_neg (by omega), if_neg (by omega), if_pos rfl]
  have n0 : nn (gNew N v o 0) = nn (N 0) + 1 := by rw [g0, nn_of (by omega)]
  have z3 : nn (N 3) = 0 := by rw [c]; exact nn_of (by decide)
  refine ⟨⟨?_, ?_, ?_, ?_, ?_, ?_, ?_, ?_, fun s hs => ?_, fun j hj => ?_⟩, ?_, ?_, fun s hs => ?_⟩
  · rw [g0]; exact nN_of _ (by omega)
  · rw [n0]; omega
  · rw [gl 1 (by omega) (by omega)]; exact a3
  · rw [gl 1 (by omega) (by omega)]; exact a4
  · rw [gl 2 (by omega) (by omega)]; exact a5
  · rw [gl 2 (by omega) (by omega), gl 1 (by omega) (by omega)]; exact a6
  · rw [gl 3 (by omega) (by omega)]; exact a7
  · rw [gl 3 (by omega) (by omega)]; exact a8
  · rw [n0] at hs
    unfold okS
    by_cases hc : s = nn (N 0)
    · subst hc
      rw [g1, g2]
      exact ⟨nN_of _ (by omega), by rw [nn_of (by omega)]; exact h2, nN_of _ (by decide), by rw [nn_of (by decide), nn_of (by omega)]; exact h1⟩
    · rw [go s 1 (by omega) (by omega), go s 2 (by omega) (by omega)]
      exact a9 s (by omega)
  · rw [gl 3 (by omega) (by omega), z3] at hj
    omega
  · rw [gl 2 (by omega) (by omega)]; exact b
  · rw [gl 3 (by omega) (by omega)]; exact c
  · rw [n0] at hs
    by_cases hc : s = nn (N 0)
    · subst hc
      rw [g1, va_up_self]
      exact ⟨⟨Or.inl rfl, by decide⟩, by rw [nn_of (by omega)]; exact h1⟩
    · rw [go s 1 (by omega) (by omega), va_up_ne _ _ hc]
      exact d s (by omega)
theorem gSpec_ok {T : Nat → Int32} {len q e : Nat} {N : Nat → Int32} {TS : gTs} (hr : rdN N TS) (hq : q < e) (he : e ≤ len) : gOkL len q (gSpec T len q e N TS) := by
  have q0 := gBl_ge (T := T) (len := len) (p := e)
  have q1 := gBl_le (T := T) he
  have w0 := gWE_ge (T := T) (len := len) (q := gBl T len e)
  have w1 := gWE_le (T := T) q1
  unfold gSpec
  split
  · rename_i h4
    split
    · split
      · cases hn : gNum T len 1 12 (gWE T len (gBl T len e)) with
        | inl e => exact gNum_erk w1 hn
        | inr r =>
          obtain ⟨o, p2⟩ := r
          have a := gNum_ok w1 hn
          exact ⟨by omega, a.2.1, gNew_rd hr h4 a.2.2.1 a.2.2.2⟩
      · exact ⟨q1, by show 3 ≤ 5; decide⟩
    · exact ⟨q1, by show 1 ≤ 5; decide⟩
  · exact ⟨by show q ≤ len; omega, by show 5 ≤ 5; decide⟩
theorem gOkL.mono {len p q : Nat} {r : gL} (h : gOkL len q r) (hq : p ≤ q) : gOkL len p r := by
  rcases r with e | ⟨p2, N, TS⟩
  · exact h
  · exact ⟨by have := h.1; omega, h.2⟩
theorem gOfS_ok {T : Nat → Int32} {len s q : Nat} {N : Nat → Int32} {TS : gTs} (h9 : len ≤ 900) (hq : q ≤ len) (hr : rdN N TS) (hs : s < nn (N 0)) : gOkL len q (gOfS T len s q N TS) := by
  have h4 := hr.1.2.1
  have ho := hr.1.2.2.2.2.2.2.2.2.1 s hs
  unfold gOfS
  split
  · rename_i hw; exact (gRowL_ok (by decide) (gWd_le hq hw) hr hs).mono (by omega)
  split
  · rename_i hw; exact (gRowL_ok (by decide) (gWd_le hq hw) hr hs).mono (by omega)
  split
  · rename_i hw; exact (gRowL_ok (by decide) (gWd_le hq hw) hr hs).mono (by omega)
  split
  · rename_i hw
    refine (gNumL_ok (gWd_le hq hw) (fun v h1 h2 => ?_)).mono (by omega)
    obtain ⟨⟨a1, a2, a3, a4, a5, a6, a7, a8, a9, a10⟩, b, c, d⟩ := hr
    have gl : ∀ j, j < 64 → va_up N (zI s 2) (Int32.ofNat v) j = N j := fun j hj => va_up_ne _ _ (by unfold zI; omega)
    have g1 : ∀ t, t < 4 → va_up N (zI s 2) (Int32.ofNat v) (zI t 1) = N (zI t 1) := fun t ht => va_up_ne _ _ (by unfold zI; omega)
    refine ⟨⟨?_, ?_, ?_, ?_, ?_, ?_, ?_, ?_, fun t ht => ?_, fun j hj => ?_⟩, ?_, ?_, fun t ht => ?_⟩
    · rw [gl 0 (by omega)]; exact a1
    · rw [gl 0 (by omega)]; exact a2
    · rw [gl 1 (by omega)]; exact a3
    · rw [gl 1 (by omega)]; exact a4
    · rw [gl 2 (by omega)]; exact a5
    · rw [gl 2 (by omega), gl 1 (by omega)]; exact a6
    · rw [gl 3 (by omega)]; exact a7
    · rw [gl 3 (by omega)]; exact a8
    · rw [gl 0 (by omega)] at ht
      unfold okS
      rw [g1 t (by omega)]
      by_cases hc : t = s
      · subst hc
        rw [va_up_self]
        have := ho.2.1
        exact ⟨ho.1, ho.2.1, nN_of _ (by omega), by rw [nn_of (by omega)]; exact h2⟩
      · rw [va_up_ne _ _ (by unfold zI; omega)]
        exact a9 t ht
    · rw [gl 3 (by omega)] at hj
      have z3 : nn (N 3) = 0 := by rw [c]; exact nn_of (by decide)
      omega
    · rw [gl 2 (by omega)]; exact b
    · rw [gl 3 (by omega)]; exact c
    · rw [gl 0 (by omega)] at ht
      rw [g1 t (by omega)]
      exact d t ht
  split
  · rename_i hw
    exact (gNumL_ok (gWd_le hq hw) (fun v h1 h2 => hr.congr (fun j hj => va_up_ne _ _ (by unfold zI; omega)) (fun t ht => ⟨va_up_ne _ _ (by unfold zI; omega), va_up_ne _ _ (by unfold zI; omega)⟩))).mono (by omega)
  split
  · rename_i hw; exact (gAll_ok h9 (gWd_le hq hw) hr).mono (by omega)
  · exact ⟨hq, by show 1 ≤ 5; decide⟩
theorem gOf_ok {T : Nat → Int32} {len q : Nat} {N : Nat → Int32} {TS : gTs} (h9 : len ≤ 900) (hq : q ≤ len) (hr : rdN N TS) : gOkL len q (gOf T len q N TS) := by
  unfold gOf
  split
  · exact ⟨hq, by show 1 ≤ 5; decide⟩
  · exact gOfS_ok h9 hq hr (by omega)
theorem gLine_ok {T : Nat → Int32} {len q : Nat} {N : Nat → Int32} {TS : gTs} (h9 : len ≤ 900) (hq : q ≤ len) (hr : rdN N TS) : gOkL len q (gLine T len q N TS) := by
  unfold gLine
  split
  · rename_i hw
    refine (gNumL_ok (gWd_le hq hw) (fun v h1 h2 => ?_)).mono (by omega)
    obtain ⟨⟨a1, a2, a3, a4, a5, a6, a7, a8, a9, a10⟩, b, c, d⟩ := hr
    have gl : ∀ j, j ≠ 1 → va_up N 1 (Int32.ofNat v) j = N j := fun j hj => va_up_ne _ _ hj
    refine ⟨⟨?_, ?_, ?_, ?_, ?_, ?_, ?_, ?_, fun t ht => ?_, fun j hj => ?_⟩, ?_, ?_, fun t ht => ?_⟩
    · rw [gl 0 (by omega)]; exact a1
    · rw [gl 0 (by omega)]; exact a2
    · rw [va_up_self]; exact nN_of _ (by omega)
    · rw [va_up_self, nn_of (by omega)]; exact h2
    · rw [gl 2 (by omega)]; exact a5
    · rw [gl 2 (by omega), b, nn_of (by decide)]; exact Nat.zero_le _
    · rw [gl 3 (by omega)]; exact a7
    · rw [gl 3 (by omega)]; exact a8
    · rw [gl 0 (by omega)] at ht
      unfold okS
      rw [gl _ (by unfold zI; omega), gl _ (by unfold zI; omega)]
      exact a9 t ht
    · rw [gl 3 (by omega)] at hj
      have z3 : nn (N 3) = 0 := by rw [c]; exact nn_of (by decide)
      omega
    · rw [gl 2 (by omega)]; exact b
    · rw [gl 3 (by omega)]; exact c
    · rw [gl 0 (by omega)] at ht
      rw [gl _ (by unfold zI; omega)]
      exact d t ht
  split
  · rename_i hw; exact gSpec_ok hr (by omega) (gWd_le hq hw)
  · exact gOf_ok h9 hq hr
