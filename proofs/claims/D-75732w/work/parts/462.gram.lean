/-! part 462: the pure parser: places, signs, numbers, words, formulas -/
abbrev gX (α : Type) : Type := (Nat × Nat) ⊕ α
abbrev gR : Type := gX (Nat × List (Nat × Int32))
theorem pAt_iff {T : Nat → Int32} {len p : Nat} {lo hi : Int32} : pAt T len p lo hi = true ↔ p < len ∧ lo ≤ T p ∧ T p ≤ hi := by
  unfold pAt
  simp only [Bool.and_eq_true, decide_eq_true_eq]
theorem pAt_val {T : Nat → Int32} {len p lo hi : Nat} (h : pAt T len p (Int32.ofNat lo) (Int32.ofNat hi) = true) (hl : lo < 2147483648) (hh : hi < 2147483648) : p < len ∧ ∃ c, T p = Int32.ofNat c ∧ lo ≤ c ∧ c ≤ hi := by
  obtain ⟨h1, h2, h3⟩ := pAt_iff.mp h
  rw [Int32.le_iff_toInt_le, i_toInt hl] at h2
  rw [Int32.le_iff_toInt_le, i_toInt hh] at h3
  exact ⟨h1, (T p).toInt.toNat, i_ofToInt (by omega), by omega, by omega⟩
theorem pAt_of {T : Nat → Int32} {len p lo hi c : Nat} (h1 : p < len) (h2 : T p = Int32.ofNat c) (h3 : lo ≤ c) (h4 : c ≤ hi) (hh : hi < 2147483648) : pAt T len p (Int32.ofNat lo) (Int32.ofNat hi) = true := by
  rw [pAt_iff, h2, i_le (by omega) (by omega), i_le (by omega) (by omega)]
  exact ⟨h1, h3, h4⟩
theorem pBl_ge (T : Nat → Int32) (len : Nat) : ∀ k p, p ≤ pBl T len k p := by
  intro k
  induction k with
  | zero => intro p; exact Nat.le_refl p
  | succ k ih =>
    intro p
    unfold pBl
    split
    · have := ih (p + 1); omega
    · exact Nat.le_refl p
theorem pBl_le (T : Nat → Int32) (len : Nat) : ∀ k p, p + k ≤ len → pBl T len k p ≤ p + k := by
  intro k
  induction k with
  | zero => intro p _; exact Nat.le_refl p
  | succ k ih =>
    intro p hp
    unfold pBl
    split
    · have := ih (p + 1) (by omega); omega
    · omega
/-- behind the blanks -/
def gBl (T : Nat → Int32) (len p : Nat) : Nat := pBl T len (len - p) p
theorem gBl_ge {T : Nat → Int32} {len p : Nat} : p ≤ gBl T len p := pBl_ge T len _ p
theorem gBl_le {T : Nat → Int32} {len p : Nat} (h : p ≤ len) : gBl T len p ≤ len := by
  have := pBl_le T len (len - p) p (by omega)
  unfold gBl
  omega
theorem pBl_stop (T : Nat → Int32) (len : Nat) : ∀ k p, len ≤ p + k → ¬ (pAt T len (pBl T len k p) (Int32.ofNat 9) (Int32.ofNat 10) = true ∨ pAt T len (pBl T len k p) (Int32.ofNat 32) (Int32.ofNat 32) = true) := by
  intro k
  induction k with
  | zero =>
    intro p hp q
    unfold pBl at q
    rw [pAt_iff, pAt_iff] at q
    omega
  | succ k ih =>
    intro p hp
    unfold pBl
    split
    · exact ih (p + 1) (by omega)
    · assumption
theorem gBl_stop {T : Nat → Int32} {len p : Nat} : ¬ (pAt T len (gBl T len p) (Int32.ofNat 9) (Int32.ofNat 10) = true ∨ pAt T len (gBl T len p) (Int32.ofNat 32) (Int32.ofNat 32) = true) := pBl_stop T len _ p (by omega)
theorem pBl_fix (T : Nat → Int32) (len : Nat) {p : Nat} (h : ¬ (pAt T len p (Int32.ofNat 9) (Int32.ofNat 10) = true ∨ pAt T len p (Int32.ofNat 32) (Int32.ofNat 32) = true)) : ∀ k, pBl T len k p = p := by
  intro k
  cases k with
  | zero => rfl
  | succ k => unfold pBl; rw [if_neg h]
theorem gBl_idem {T : Nat → Int32} {len p : Nat} : gBl T len (gBl T len p) = gBl T len p := pBl_fix T len gBl_stop _
/-- a sign is read -/
def gSg (T : Nat → Int32) (len c p : Nat) : gX Nat := if pAt T len (gBl T len p) (Int32.ofNat c) (Int32.ofNat c) = true then .inr (gBl T len p + 1) else .inl (gBl T len p, 1)
def pDE (T : Nat → Int32) (len : Nat) : Nat → Nat → Nat
  | 0, p => p
  | k + 1, p => if pAt T len p (Int32.ofNat 48) (Int32.ofNat 57) = true then pDE T len k (p + 1) else p
def pDV (T : Nat → Int32) (len b : Nat) : Nat → Nat → Nat → Nat
  | 0, _, v => v
  | k + 1, p, v => if pAt T len p (Int32.ofNat 48) (Int32.ofNat 57) = true then pDV T len b k (p + 1) (if p - b < 6 then 10 * v + (nn (T p) - 48) else v) else v
/-- a number is read -/
def gNum (T : Nat → Int32) (len lo hi p : Nat) : gX (Nat × Nat) :=
  if pAt T len (gBl T len p) (Int32.ofNat 48) (Int32.ofNat 57) = true then
    (if pDE T len (len - gBl T len p) (gBl T len p) - gBl T len p ≤ 6 ∧ lo ≤ pDV T len (gBl T len p) (len - gBl T len p) (gBl T len p) 0 ∧ pDV T len (gBl T len p) (len - gBl T len p) (gBl T len p) 0 ≤ hi then .inr (pDV T len (gBl T len p) (len - gBl T len p) (gBl T len p) 0, pDE T len (len - gBl T len p) (gBl T len p)) else .inl (gBl T len p, 2))
  else .inl (gBl T len p, 1)
theorem pDE_ge (T : Nat → Int32) (len : Nat) : ∀ k p, p ≤ pDE T len k p := by
  intro k
  induction k with
  | zero => intro p; exact Nat.le_refl p
  | succ k ih =>
    intro p
    unfold pDE
    split
    · have := ih (p + 1); omega
    · exact Nat.le_refl p
theorem pDE_le (T : Nat → Int32) (len : Nat) : ∀ k p, p + k ≤ len → pDE T len k p ≤ p + k := by
  intro k
  induction k with
  | zero => intro p _; exact Nat.le_refl p
  | succ k ih =>
    intro p hp
    unfold pDE
    split
    · have := ih (p + 1) (by omega); omega
    · omega
theorem pDE_gt {T : Nat → Int32} {len p : Nat} (h : pAt T len p (Int32.ofNat 48) (Int32.ofNat 57) = true) : p < pDE T len (len - p) p := by
  have h1 := (pAt_iff.mp h).1
  obtain ⟨k, hk⟩ : ∃ k, len - p = k + 1 := ⟨len - p - 1, by omega⟩
  rw [hk]
  unfold pDE
  rw [if_pos h]
  have := pDE_ge T len k (p + 1)
  omega
theorem gNum_ok {T : Nat → Int32} {len lo hi p v e : Nat} (hp : p ≤ len) (h : gNum T len lo hi p = .inr (v, e)) : p < e ∧ e ≤ len ∧ lo ≤ v ∧ v ≤ hi := by
  unfold gNum at h
  have h1 := gBl_ge (T := T) (len := len) (p := p)
  have h2 := gBl_le (T := T) (len := len) (p := p) hp
  split at h
  · rename_i hd
    have h3 := pDE_gt hd
    have h4 := pDE_le T len (len - gBl T len p) (gBl T len p) (by omega)
    split at h
    · rename_i hc
      cases h
      exact ⟨by omega, by omega, hc.2.1, hc.2.2⟩
    · cases h
  · cases h
theorem gNum_er {T : Nat → Int32} {len lo hi p q e : Nat} (hp : p ≤ len) (h : gNum T len lo hi p = .inl (q, e)) : q ≤ len := by
  unfold gNum at h
  have h2 := gBl_le (T := T) (len := len) (p := p) hp
  split at h
  · split at h
    · cases h
    · cases h; exact h2
  · cases h; exact h2
def pWE (T : Nat → Int32) (len : Nat) : Nat → Nat → Nat
  | 0, p => p
  | k + 1, p => if pAt T len p (Int32.ofNat 97) (Int32.ofNat 122) = true then pWE T len k (p + 1) else p
theorem pWE_ge (T : Nat → Int32) (len : Nat) : ∀ k p, p ≤ pWE T len k p := by
  intro k
  induction k with
  | zero => intro p; exact Nat.le_refl p
  | succ k ih =>
    intro p
    unfold pWE
    split
    · have := ih (p + 1); omega
    · exact Nat.le_refl p
theorem pWE_le (T : Nat → Int32) (len : Nat) : ∀ k p, p + k ≤ len → pWE T len k p ≤ p + k := by
  intro k
  induction k with
  | zero => intro p _; exact Nat.le_refl p
  | succ k ih =>
    intro p hp
    unfold pWE
    split
    · have := ih (p + 1) (by omega); omega
    · omega
/-- the end of the word at q -/
def gWE (T : Nat → Int32) (len q : Nat) : Nat := pWE T len (len - q) q
theorem gWE_ge {T : Nat → Int32} {len q : Nat} : q ≤ gWE T len q := pWE_ge T len _ q
theorem gWE_le {T : Nat → Int32} {len q : Nat} (h : q ≤ len) : gWE T len q ≤ len := by
  have := pWE_le T len (len - q) q (by omega)
  unfold gWE
  omega
def pIsL (T : Nat → Int32) : Nat → List Nat → Bool
  | _, [] => true
  | p, c :: w => decide (T p = Int32.ofNat c) && pIsL T (p + 1) w
/-- whether the word w stands at q -/
def gWd (T : Nat → Int32) (len : Nat) (w : List Nat) (q : Nat) : Bool := decide (gWE T len q - q = w.length) && pIsL T q w
theorem gWd_le {T : Nat → Int32} {len q : Nat} {w : List Nat} (hq : q ≤ len) (h : gWd T len w q = true) : q + w.length ≤ len := by
  unfold gWd at h
  rw [Bool.and_eq_true, decide_eq_true_eq] at h
  have h1 := gWE_ge (T := T) (len := len) (q := q)
  have h2 := gWE_le (T := T) hq
  omega
def w_min : List Nat := [109, 105, 110]
def w_max : List Nat := [109, 97, 120]
def w_total : List Nat := [116, 111, 116, 97, 108]
def w_adults : List Nat := [97, 100, 117, 108, 116, 115]
def w_newborn : List Nat := [110, 101, 119, 98, 111, 114, 110]
def w_year : List Nat := [121, 101, 97, 114]
def w_species : List Nat := [115, 112, 101, 99, 105, 101, 115]
def w_survive : List Nat := [115, 117, 114, 118, 105, 118, 101]
def w_bear : List Nat := [98, 101, 97, 114]
def w_count : List Nat := [99, 111, 117, 110, 116]
def w_adult : List Nat := [97, 100, 117, 108, 116]
def w_room : List Nat := [114, 111, 111, 109]
def w_allow : List Nat := [97, 108, 108, 111, 119]
/-- a bracket is opened at depth k -/
def gOpen (T : Nat → Int32) (len k p : Nat) : gX Nat := if pAt T len (gBl T len p) (Int32.ofNat 40) (Int32.ofNat 40) = true then (if k < 4 then .inr (gBl T len p + 1) else .inl (gBl T len p, 4)) else .inl (gBl T len p, 1)
def gPair (T : Nat → Int32) (len : Nat) (S : Nat → Nat → gR) (op k p : Nat) : gR := match gOpen T len k p with
  | .inl e => .inl e
  | .inr p1 => match S (k + 1) p1 with
    | .inl e => .inl e
    | .inr (p2, ts1) => match gSg T len 44 p2 with
      | .inl e => .inl e
      | .inr p3 => match S (k + 1) p3 with
        | .inl e => .inl e
        | .inr (p4, ts2) => match gSg T len 41 p4 with
          | .inl e => .inl e
          | .inr p5 => .inr (p5, ts1 ++ (ts2 ++ [(op, 0)]))
def gBra (T : Nat → Int32) (len : Nat) (S : Nat → Nat → gR) (k p : Nat) : gR := match gOpen T len k p with
  | .inl e => .inl e
  | .inr p1 => match S (k + 1) p1 with
    | .inl e => .inl e
    | .inr (p2, ts) => match gSg T len 41 p2 with
      | .inl e => .inl e
      | .inr p3 => .inr (p3, ts)
def gLit (T : Nat → Int32) (len p : Nat) : gR := match gNum T len 0 999999 p with
  | .inl e => .inl e
  | .inr (v, e) => .inr (e, [(0, Int32.ofNat v)])
/-- a factor at q, behind the blanks -/
def gFacQ (T : Nat → Int32) (len : Nat) (S : Nat → Nat → gR) (k q : Nat) : gR :=
  if pAt T len q (Int32.ofNat 48) (Int32.ofNat 57) = true then gLit T len q
  else if pAt T len q (Int32.ofNat 40) (Int32.ofNat 40) = true then gBra T len S k q
  else if gWd T len w_min q = true then gPair T len S 9 k (q + 3)
  else if gWd T len w_max q = true then gPair T len S 10 k (q + 3)
  else if gWd T len w_total q = true then .inr (q + 5, [(1, 0)])
  else if gWd T len w_adults q = true then .inr (q + 6, [(2, 0)])
  else if gWd T len w_newborn q = true then .inr (q + 7, [(3, 0)])
  else if gWd T len w_year q = true then .inr (q + 4, [(4, 0)])
  else .inl (q, 1)
def gFac (T : Nat → Int32) (len : Nat) (S : Nat → Nat → gR) (k p : Nat) : gR := gFacQ T len S k (gBl T len p)
/-- operands with signs between them -/
def gLoop (T : Nat → Int32) (len c1 o1 c2 o2 : Nat) (F : Nat → gR) : Nat → Nat → List (Nat × Int32) → gR
  | 0, _, _ => .inl (0, 0)
  | f + 1, p, ts =>
    if pAt T len (gBl T len p) (Int32.ofNat c1) (Int32.ofNat c1) = true then (match F (gBl T len p + 1) with
      | .inl e => .inl e
      | .inr (p2, ts2) => gLoop T len c1 o1 c2 o2 F f p2 (ts ++ (ts2 ++ [(o1, 0)])))
    else if pAt T len (gBl T len p) (Int32.ofNat c2) (Int32.ofNat c2) = true then (match F (gBl T len p + 1) with
      | .inl e => .inl e
      | .inr (p2, ts2) => gLoop T len c1 o1 c2 o2 F f p2 (ts ++ (ts2 ++ [(o2, 0)])))
    else .inr (gBl T len p, ts)
def gOps (T : Nat → Int32) (len c1 o1 c2 o2 : Nat) (F : Nat → gR) (p : Nat) : gR := match F p with
  | .inl e => .inl e
  | .inr (p1, ts) => gLoop T len c1 o1 c2 o2 F (len + 1 - p1) p1 ts
def gTrm (T : Nat → Int32) (len : Nat) (S : Nat → Nat → gR) (k p : Nat) : gR := gOps T len 42 7 47 8 (gFac T len S k) p
def gSum (T : Nat → Int32) (len : Nat) (S : Nat → Nat → gR) (k p : Nat) : gR := gOps T len 43 5 45 6 (gTrm T len S k) p
def gSumD (T : Nat → Int32) (len : Nat) : Nat → Nat → Nat → gR
  | 0 => fun _ _ => .inl (0, 0)
  | d + 1 => gSum T len (gSumD T len d)
/-! what a formula that was read is like -/
def wfT (ts : List (Nat × Int32)) : Prop := (∀ d, pDep ts d = some (d + 1)) ∧ ∀ x ∈ ts, x.1 ≤ 10
/-- a good answer from p on -/
def gOk (len p : Nat) (r : gR) : Prop := match r with
  | .inl (q, e) => q ≤ len ∧ e ≤ 5
  | .inr (p2, ts) => p < p2 ∧ p2 ≤ len ∧ wfT ts ∧ 2 * tlen ts ≤ 3 * (p2 - p) + 1
theorem pDep_app : ∀ (a b : List (Nat × Int32)) (d : Nat), pDep (a ++ b) d = (pDep a d).bind (pDep b) := by
  intro a
  induction a with
  | nil => intro b d; rfl
  | cons x a ih =>
    intro b d
    obtain ⟨k, v⟩ := x
    simp only [List.cons_append, pDep]
    split
    · exact ih b _
    · split
      · exact ih b _
      · rfl
theorem tlen_app (a b : List (Nat × Int32)) : tlen (a ++ b) = tlen a + tlen b := by
  induction a with
  | nil => simp [tlen]
  | cons x a ih =>
    obtain ⟨k, v⟩ := x
    simp only [List.cons_append, tlen, ih]
    omega
theorem wfT.pair {a b : List (Nat × Int32)} {o : Nat} {v : Int32} (ha : wfT a) (hb : wfT b) (h5 : 5 ≤ o) (h10 : o ≤ 10) : wfT (a ++ (b ++ [(o, v)])) := by
  refine ⟨fun d => ?_, fun x hx => ?_⟩
  · rw [pDep_app, ha.1, Option.bind_some, pDep_app, hb.1, Option.bind_some]
    unfold pDep
    rw [if_neg (by omega), if_pos (by omega)]
    rfl
  · rw [List.mem_append, List.mem_append, List.mem_singleton] at hx
    rcases hx with hx | hx | hx
    · exact ha.2 x hx
    · exact hb.2 x hx
    · subst hx; exact h10
theorem wfT.one {k : Nat} {v : Int32} (h : k < 5) : wfT [(k, v)] := by
  refine ⟨fun d => ?_, fun x hx => ?_⟩
  · unfold pDep
    rw [if_pos h]
    rfl
  · rw [List.mem_singleton] at hx
    subst hx
    show k ≤ 10
    omega
theorem gSg_ok {T : Nat → Int32} {len c p p2 : Nat} (h : gSg T len c p = .inr p2) : p < p2 ∧ p2 ≤ len := by
  unfold gSg at h
  have h1 := gBl_ge (T := T) (len := len) (p := p)
  split at h
  · rename_i hc
    have := (pAt_iff.mp hc).1
    cases h
    omega
  · cases h
theorem gSg_er {T : Nat → Int32} {len c p : Nat} {e : Nat × Nat} (hp : p ≤ len) (h : gSg T len c p = .inl e) : e.1 ≤ len ∧ e.2 ≤ 5 := by
  unfold gSg at h
  have h2 := gBl_le (T := T) (len := len) (p := p) hp
  split at h
  · cases h
  · cases h; exact ⟨h2, by show 1 ≤ 5; decide⟩
theorem gOpen_ok {T : Nat → Int32} {len k p p2 : Nat} (h : gOpen T len k p = .inr p2) : p < p2 ∧ p2 ≤ len ∧ k < 4 := by
  unfold gOpen at h
  have h1 := gBl_ge (T := T) (len := len) (p := p)
  split at h
  · rename_i hc
    have := (pAt_iff.mp hc).1
    split at h
    · cases h
      omega
    · cases h
  · cases h
theorem gOpen_er {T : Nat → Int32} {len k p : Nat} {e : Nat × Nat} (hp : p ≤ len) (h : gOpen T len k p = .inl e) : e.1 ≤ len ∧ e.2 ≤ 5 := by
  unfold gOpen at h
  have h2 := gBl_le (T := T) (len := len) (p := p) hp
  split at h
  · split at h
    · cases h
    · cases h; exact ⟨h2, by show 4 ≤ 5; decide⟩
  · cases h; exact ⟨h2, by show 1 ≤ 5; decide⟩
theorem gOk.er {len p p' : Nat} {e : Nat × Nat} (h : gOk len p (.inl e)) : gOk len p' (.inl e) := h
theorem gOk_er {len p : Nat} {e : Nat × Nat} (h : e.1 ≤ len ∧ e.2 ≤ 5) : gOk len p (.inl e) := h
theorem gPair_ok {T : Nat → Int32} {len op k p : Nat} {S : Nat → Nat → gR} (hS : ∀ k p, k ≤ 4 → p ≤ len → gOk len p (S k p)) (h5 : 5 ≤ op) (h10 : op ≤ 10) (hp : p ≤ len) : gOk len p (gPair T len S op k p) := by
  unfold gPair
  cases h1 : gOpen T len k p with
  | inl e => exact gOk_er (gOpen_er hp h1)
  | inr p1 =>
    dsimp only
    have a1 := gOpen_ok h1
    have b1 := hS (k + 1) p1 (by omega) (by omega)
    cases h2 : S (k + 1) p1 with
    | inl e => rw [h2] at b1; exact b1
    | inr r =>
      obtain ⟨p2, ts1⟩ := r
      rw [h2] at b1
      obtain ⟨b1, b2, b3, b4⟩ := b1
      dsimp only
      cases h3 : gSg T len 44 p2 with
      | inl e => exact gOk_er (gSg_er b2 h3)
      | inr p3 =>
        have a3 := gSg_ok h3
        dsimp only
        have c1 := hS (k + 1) p3 (by omega) (by omega)
        cases h4 : S (k + 1) p3 with
        | inl e => rw [h4] at c1; exact c1
        | inr r =>
          obtain ⟨p4, ts2⟩ := r
          rw [h4] at c1
          obtain ⟨c1, c2, c3, c4⟩ := c1
          dsimp only
          cases h5' : gSg T len 41 p4 with
          | inl e => exact gOk_er (gSg_er c2 h5')
          | inr p5 =>
            have a5 := gSg_ok h5'
            refine ⟨by omega, by omega, b3.pair c3 h5 h10, ?_⟩
            rw [tlen_app, tlen_app]
            have : tlen [(op, (0 : Int32))] = 1 := by unfold tlen; rw [if_neg (by omega)]; rfl
            omega
theorem gBra_ok {T : Nat → Int32} {len k p : Nat} {S : Nat → Nat → gR} (hS : ∀ k p, k ≤ 4 → p ≤ len → gOk len p (S k p)) (hp : p ≤ len) : gOk len p (gBra T len S k p) := by
  unfold gBra
  cases h1 : gOpen T len k p with
  | inl e => exact gOk_er (gOpen_er hp h1)
  | inr p1 =>
    dsimp only
    have a1 := gOpen_ok h1
    have b1 := hS (k + 1) p1 (by omega) (by omega)
    cases h2 : S (k + 1) p1 with
    | inl e => rw [h2] at b1; exact b1
    | inr r =>
      obtain ⟨p2, ts1⟩ := r
      rw [h2] at b1
      obtain ⟨b1, b2, b3, b4⟩ := b1
      dsimp only
      cases h3 : gSg T len 41 p2 with
      | inl e => exact gOk_er (gSg_er b2 h3)
      | inr p3 =>
        have a3 := gSg_ok h3
        exact ⟨by omega, by omega, b3, by omega⟩
theorem gOk.mono {len p q : Nat} {r : gR} (h : gOk len q r) (hq : p ≤ q) : gOk len p r := by
  rcases r with e | ⟨p2, ts⟩
  · exact h
  · obtain ⟨h1, h2, h3, h4⟩ := h
    exact ⟨by omega, h2, h3, by omega⟩
theorem gFacQ_ok {T : Nat → Int32} {len k q : Nat} {S : Nat → Nat → gR} (hS : ∀ k p, k ≤ 4 → p ≤ len → gOk len p (S k p)) (hq : q ≤ len) : gOk len q (gFacQ T len S k q) := by
  have one : ∀ (j l : Nat), j < 5 → 1 ≤ j → 1 ≤ l → q + l ≤ len → gOk len q (.inr (q + l, [(j, (0 : Int32))])) := by
    intro j l h1 h2 h3 h4
    have : tlen [(j, (0 : Int32))] = 1 := by unfold tlen; rw [if_neg (by omega)]; rfl
    refine ⟨by omega, h4, wfT.one h1, ?_⟩
    rw [this]
    omega
  unfold gFacQ
  split
  · unfold gLit
    cases h1 : gNum T len 0 999999 q with
    | inl e =>
      refine ⟨gNum_er hq h1, ?_⟩
      unfold gNum at h1
      split at h1
      · split at h1
        · cases h1
        · cases h1; show 2 ≤ 5; decide
      · cases h1; show 1 ≤ 5; decide
    | inr r =>
      obtain ⟨v, e⟩ := r
      obtain ⟨a1, a2, a3, a4⟩ := gNum_ok hq h1
      refine ⟨a1, a2, wfT.one (by decide), ?_⟩
      show 2 * 2 ≤ _
      omega
  · split
    · exact gBra_ok hS hq
    · split
      · rename_i hw
        have := gWd_le hq hw
        exact (gPair_ok hS (by decide) (by decide) (by simpa [w_min] using this)).mono (by omega)
      · split
        · rename_i hw
          have := gWd_le hq hw
          exact (gPair_ok hS (by decide) (by decide) (by simpa [w_max] using this)).mono (by omega)
        · split
          · rename_i hw
            have := gWd_le hq hw
            exact one 1 5 (by decide) (by decide) (by decide) (by simpa [w_total] using this)
          · split
            · rename_i hw
              have := gWd_le hq hw
              exact one 2 6 (by decide) (by decide) (by decide) (by simpa [w_adults] using this)
            · split
              · rename_i hw
                have := gWd_le hq hw
                exact one 3 7 (by decide) (by decide) (by decide) (by simpa [w_newborn] using this)
              · split
                · rename_i hw
                  have := gWd_le hq hw
                  exact one 4 4 (by decide) (by decide) (by decide) (by simpa [w_year] using this)
                · exact ⟨hq, by decide⟩
theorem gFac_ok {T : Nat → Int32} {len k p : Nat} {S : Nat → Nat → gR} (hS : ∀ k p, k ≤ 4 → p ≤ len → gOk len p (S k p)) (hp : p ≤ len) : gOk len p (gFac T len S k p) := (gFacQ_ok hS (gBl_le hp)).mono gBl_ge
theorem gLoop_ok {T : Nat → Int32} {len c1 o1 c2 o2 : Nat} {F : Nat → gR} (hF : ∀ p, p ≤ len → gOk len p (F p)) (h1 : 5 ≤ o1 ∧ o1 ≤ 10) (h2 : 5 ≤ o2 ∧ o2 ≤ 10) (p0 : Nat) : ∀ (f p : Nat) (ts : List (Nat × Int32)), len < p + f → p0 < p → p ≤ len → wfT ts → 2 * tlen ts ≤ 3 * (p - p0) + 1 → gOk len p0 (gLoop T len c1 o1 c2 o2 F f p ts) := by
  intro f
  induction f with
  | zero => intro p ts a b c; omega
  | succ f ih =>
    intro p ts a b c hw hl
    unfold gLoop
    have e1 := gBl_ge (T := T) (len := len) (p := p)
    have e2 := gBl_le (T := T) (len := len) (p := p) c
    have step : ∀ o : Nat, 5 ≤ o ∧ o ≤ 10 → gBl T len p + 1 ≤ len → gOk len p0 (match F (gBl T len p + 1) with
      | .inl e => .inl e
      | .inr (p2, ts2) => gLoop T len c1 o1 c2 o2 F f p2 (ts ++ (ts2 ++ [(o, 0)]))) := by
      intro o ho hb
      have g1 := hF (gBl T len p + 1) hb
      cases hc : F (gBl T len p + 1) with
      | inl e => rw [hc] at g1; exact g1
      | inr r =>
        obtain ⟨p2, ts2⟩ := r
        rw [hc] at g1
        obtain ⟨g1, g2, g3, g4⟩ := g1
        refine ih p2 _ (by omega) (by omega) g2 (hw.pair g3 ho.1 ho.2) ?_
        rw [tlen_app, tlen_app]
        have : tlen [(o, (0 : Int32))] = 1 := by unfold tlen; rw [if_neg (by omega)]; rfl
        omega
    split
    · rename_i hc
      exact step o1 h1 (pAt_iff.mp hc).1
    · split
      · rename_i hc
        exact step o2 h2 (pAt_iff.mp hc).1
      · exact ⟨by omega, e2, hw, by omega⟩
theorem gOps_ok {T : Nat → Int32} {len c1 o1 c2 o2 : Nat} {F : Nat → gR} (hF : ∀ p, p ≤ len → gOk len p (F p)) (h1 : 5 ≤ o1 ∧ o1 ≤ 10) (h2 : 5 ≤ o2 ∧ o2 ≤ 10) {p : Nat} (hp : p ≤ len) : gOk len p (gOps T len c1 o1 c2 o2 F p) := by
  unfold gOps
  have g1 := hF p hp
  cases hc : F p with
  | inl e => rw [hc] at g1; exact g1
  | inr r =>
    obtain ⟨p2, ts2⟩ := r
    rw [hc] at g1
    obtain ⟨g1, g2, g3, g4⟩ := g1
    exact gLoop_ok hF h1 h2 p _ _ _ (by omega) g1 g2 g3 g4
theorem gTrm_ok {T : Nat → Int32} {len k p : Nat} {S : Nat → Nat → gR} (hS : ∀ k p, k ≤ 4 → p ≤ len → gOk len p (S k p)) (hp : p ≤ len) : gOk len p (gTrm T len S k p) := gOps_ok (fun _ h => gFac_ok hS h) (by decide) (by decide) hp
theorem gSum_ok {T : Nat → Int32} {len k p : Nat} {S : Nat → Nat → gR} (hS : ∀ k p, k ≤ 4 → p ≤ len → gOk len p (S k p)) (hp : p ≤ len) : gOk len p (gSum T len S k p) := gOps_ok (fun _ h => gTrm_ok hS h) (by decide) (by decide) hp
theorem gSumD_ok {T : Nat → Int32} {len : Nat} : ∀ (d k p : Nat), p ≤ len → gOk len p (gSumD T len d k p) := by
  intro d
  induction d with
  | zero => intro k p hp; exact ⟨Nat.zero_le _, by decide⟩
  | succ d ih => intro k p hp; exact gSum_ok (fun k p _ h => ih k p h) hp
