/-! part 579: the system behind a record: the present state is new -/
def kRec (n m : Nat) (g : xH) (x hi dep : Nat) (Dh : Nat → Nat) (a : Nat → Nat → Nat) (E : Nat → Nat → Nat → Nat) (P FE : Nat → Nat) (Nn : Nat → Nat → Int32) (mx : Nat → Nat) (D T B M : Nat → Nat → Nat) : Prop :=
  kHs g x hi dep Dh a E P FE Nn mx D T B M ∧ (x < n ∧ hi < n ∧ ∀ k, k < dep → Dh k ≤ n) ∧ (∀ i, i < dep → kFs (hLo n g) (a i) (E i) P FE (Nn i) (mx i) (D i) (T i) (B i) (M i)) ∧ (∀ k, a dep k = n + 1 + k) ∧ kFr (nn (Nn dep 0)) (n + 6) m (E dep) ∧ (∀ j, j < nn (Nn dep 3) → n + 5 ≤ D dep j) ∧ (∀ t k j, t < nn (Nn dep 0) → k < 7 → j < nn (Nn dep 3) → E dep t k ≠ D dep j) ∧ (∀ s, s < nn (Nn dep 0) → FE s < n ∧ P s < n) ∧ xbd m g
section RE
variable {Γ : Nat → Option Nat} {h g g' : xH} {n m m' x hi dep t : Nat} {Dh P FE mx Y' : Nat → Nat} {a D T B M : Nat → Nat → Nat} {E : Nat → Nat → Nat → Nat} {Nn : Nat → Nat → Int32} {N' : Nat → Int32}
theorem kHs.cgE {a' D' T' B' M' : Nat → Nat → Nat} {E' : Nat → Nat → Nat → Nat} {Nn' : Nat → Nat → Int32} {mx' : Nat → Nat} (H : kHs g x hi dep Dh a E P FE Nn mx D T B M) (e1 : ∀ i, i ≤ dep → a' i = a i) (e2 : ∀ i, i ≤ dep → E' i = E i) (e3 : ∀ i, i ≤ dep → Nn' i = Nn i) (e4 : ∀ i, i ≤ dep → mx' i = mx i) (e5 : ∀ i, i ≤ dep → D' i = D i) (e6 : ∀ i, i ≤ dep → T' i = T i) (e7 : ∀ i, i ≤ dep → B' i = B i) (e8 : ∀ i, i ≤ dep → M' i = M i) : kHs g x hi dep Dh a' E' P FE Nn' mx' D' T' B' M' := by
  obtain ⟨h1, h2, h3, h4, h5, h6, h7⟩ := H
  refine ⟨h1, by rw [e1 dep (by omega)]; exact h2, h3, h4, h5.congr (fun _ _ => rfl) (fun i hi' => by rw [e1 i (by omega)]), fun i hi' => ?_, fun i hi' => ?_⟩
  · rw [e1 i hi', e2 i hi', e3 i hi', e4 i hi', e5 i hi', e6 i hi', e7 i hi', e8 i hi']
    exact h6 i hi'
  · rw [e1 i hi', e3 i hi', e5 i hi']
    exact h7 i hi'
theorem k_rec (H : kHs h x hi dep Dh a E P FE Nn mx D T B M) (hb : xbd n h) :
    ∃ g Dh' E' D' T' dc ds, xsel (some x) [(0, fun z => fX1_record z)] Γ h n = some (.inl (some (n + 1)), g, dc, ds) ∧ dc ≤ 61 ∧ ds ≤ 910 ∧ kRec n (n + dc) g x hi (dep + 1 - shD dep) Dh' (shF dep a (fun k => n + 1 + k)) (shF dep E E') P FE (shF dep Nn (Nn dep)) (shF dep mx (mx dep)) (shF dep D D') (shF dep T T') (shF dep B (B dep)) (shF dep M (M dep)) ∧ (∀ k, k ≠ 4 → yr g 0 k x = yr h 0 k x) ∧ (∀ k, yi g 0 k x = yi h 0 k x) ∧ (∀ q, h q ≠ none → q ≠ x → q ≠ hi → (∀ k, k < dep → q ≠ Dh k) → g q = h q) ∧ (∀ q, h q ≠ none → yhd g q = yhd h q) := by
  obtain ⟨g, Dh', E', D', T', dc, ds, r1, r2, r3, r4, r5, r6, r7, r8, r9, r10, r11, r12, r13, r14⟩ := k_record (Γ := Γ) H hb
  have S := H.2.2.2.2.2.1 dep (Nat.le_refl _)
  refine ⟨g, Dh', E', D', T', dc, ds, r1, r2, r3, ⟨r5, ⟨xbd_lt hb (yO_at (yO_of _ _ _ H.1)), xbd_lt hb (yO_at (yO_of _ _ _ H.2.2.2.2.1.1)), r13⟩, fun i hi' => ?_, fun k => ?_, ?_, ?_, ?_, ?_, r4⟩, r9, r10, r11, r12⟩
  · rw [shF_lt hi', shF_lt hi', shF_lt hi', shF_lt hi', shF_lt hi', shF_lt hi', shF_lt hi', shF_lt hi']
    exact r14 i hi'
  · rw [shF_eq]
  · rw [shF_eq, shF_eq]; exact r6
  · rw [shF_eq, shF_eq]
    exact fun j hj => by have := r7 j hj; omega
  · rw [shF_eq, shF_eq, shF_eq]; exact r8
  · rw [shF_eq]
    intro s hs
    have sp := S.2.2.2.2.2 s hs
    exact ⟨xbd_lt hb (yA_at sp.1.2.2.2.2.1), xbd_lt hb (yO_at sp.1.1)⟩
/-- the present state of a recorded system -/
theorem kRec.now (R : kRec n m g x hi dep Dh a E P FE Nn mx D T B M) : kFs g (a dep) (E dep) P FE (Nn dep) (mx dep) (D dep) (T dep) (B dep) (M dep) := R.1.2.2.2.2.2.1 dep (Nat.le_refl _)
theorem kRec.set (R : kRec n m g x hi dep Dh a E P FE Nn mx D T B M) (ht : t < nn (Nn dep 0)) (mm : m ≤ m') (hb' : xbd m' g')
    (fr : ∀ q, g q ≠ none → (∀ k, k < 7 → q ≠ E dep t k) → g' q = g q) (K : kHd g' Y' (P t) N' t) (y0 : Y' 0 = E dep t 0) (yk : ∀ k, k < 7 → Y' k = E dep t k ∨ (m ≤ Y' k ∧ Y' k < m')) (yi' : ∀ j k, j < 7 → k < 7 → Y' j = Y' k → j = k)
    (n1 : ∀ j, j < 592 → (∀ w, w < 132 → j ≠ zI t w) → N' j = Nn dep j) (n2 : ∀ w, w < 132 → (w < 3 ∨ (26 ≤ w ∧ w < 39)) → N' (zI t w) = Nn dep (zI t w)) (og : okG N') : kRec n m' g' x hi dep Dh a (va_up E dep (fun j => if j = t then Y' else E dep j)) P FE (va_up Nn dep N') mx D T B M := by
  have F := R.now
  obtain ⟨⟨h1, h2, h3, h4, h5, h6, h7⟩, ⟨b1, b2, b3⟩, lo, an, Fr, Dn, ED, FP, hb⟩ := R
  have Kt := F.1.2.2.2.2.2.2.2.2.2.2.2 t ht
  have Fs := F.set (lo := n + 6) (m := m) (Y' := Y') (g' := g') (N' := N') (t := t) ht Fr (fun k hk => by rw [an k]; omega) (fun s hs => by have := (FP s hs).1; omega) fr K y0 n1 n2 og
  have hd : ∀ j, j < 64 → N' j = Nn dep j := fun j hj => n1 j (by omega) (fun w _ => by unfold zI; omega)
  have low : ∀ q, q ≤ n → g' q = g q ∨ g q = none := fun q hq => by
    by_cases z : g q = none
    · exact Or.inr z
    · exact Or.inl (fr q z (fun k hk => by have := Fr.1 t k ht hk; omega))
  have ls : hsub (hLo n g) (hLo n g') := fun q hq => by
    unfold hLo at hq ⊢
    by_cases c : q ≤ n
    · rw [if_pos c] at hq
      rw [if_pos c, if_pos c]
      exact (low q c).resolve_right hq
    · rw [if_neg c] at hq; exact absurd rfl hq
  have eO : ∀ {c q : Nat}, yO g c q → (c ≠ 19 ∧ c ≠ 24 ∧ c ≠ 22 ∧ c ≠ 23) → g' q = g q := fun hq hc => fr _ (yO_at hq) (Kt.nc hq hc)
  have ex := eO (yO_of _ _ _ h1) (by omega)
  have Frn : kFr (nn (N' 0)) (n + 6) m' (fun j => if j = t then Y' else E dep j) := by
    rw [hd 0 (by omega)]
    constructor
    · intro j k hj hk
      dsimp only
      have := Fr.1 j k hj hk
      by_cases c : j = t
      · rw [if_pos c]
        subst c
        rcases yk k hk with z | z <;> omega
      · rw [if_neg c]; omega
    · intro j k j' k' hj hk hj' hk'
      dsimp only
      have u1 := Fr.1 j k hj hk
      have u2 := Fr.1 j' k' hj' hk'
      by_cases c : j = t
      · by_cases c' : j' = t
        · rw [if_pos c, if_pos c']
          intro z
          exact ⟨by omega, yi' k k' hk hk' z⟩
        · rw [if_pos c, if_neg c']
          intro z
          subst c
          rcases yk k hk with y | y
          · rw [y] at z
            exact Fr.2 j k j' k' hj hk hj' hk' z
          · omega
      · by_cases c' : j' = t
        · rw [if_neg c, if_pos c']
          intro z
          subst c'
          rcases yk k' hk' with y | y
          · rw [y] at z
            exact Fr.2 j k j' k' hj hk hj' hk' z
          · omega
        · rw [if_neg c, if_neg c']
          exact Fr.2 j k j' k' hj hk hj' hk'
  have ltD : ∀ j, j < nn (Nn dep 3) → D dep j < m := fun j hj => xbd_lt hb (yO_at (yO_of _ _ _ (F.2.1.1.2.2.2.2.2.1 j hj).1))
  refine ⟨⟨(yW_c ex).mpr h1, (yr_c ex).trans h2, (yr_c ex).trans h3, h4, h5.cg (eO (yO_of _ _ _ h5.1) (by omega)) (fun i hi' => eO (yO_of _ _ _ (h5.2.2.2.2.2.1 i hi').1) (by omega)), fun i hi' => ?_, fun i hi' => ?_⟩, ⟨b1, b2, b3⟩, fun i hi' => ?_, an, ?_, ?_, ?_, ?_, hb'⟩
  · by_cases c : i = dep
    · subst c
      rw [va_ap, va_ap, if_pos rfl, if_pos rfl]
      exact Fs
    · rw [va_ap, va_ap, if_neg c, if_neg c]
      exact ((lo i (by omega)).mono ls).mono (hLo_sub (fun _ _ => rfl))
  · rw [va_ap]
    by_cases c : i = dep
    · rw [if_pos c, hd 3 (by omega)]
      rw [c]
      exact h7 dep (Nat.le_refl _)
    · rw [if_neg c]
      exact h7 i hi'
  · rw [va_ap, va_ap, if_neg (by omega), if_neg (by omega)]
    exact (lo i hi').mono ls
  · rw [va_ap, va_ap, if_pos rfl, if_pos rfl]
    exact Frn
  · rw [va_ap, if_pos rfl, hd 3 (by omega)]
    exact Dn
  · rw [va_ap, va_ap, if_pos rfl, if_pos rfl, hd 0 (by omega), hd 3 (by omega)]
    intro j k i hj hk hi'
    (try dsimp only)
    by_cases c : j = t
    · rw [if_pos c]
      subst c
      rcases yk k hk with y | y
      · rw [y]; exact ED j k i hj hk hi'
      · have := ltD i hi'
        omega
    · rw [if_neg c]; exact ED j k i hj hk hi'
  · rw [va_ap, if_pos rfl, hd 0 (by omega)]
    exact FP
/-- a herd of the new state is asked for -/
theorem kRec.get (R : kRec n m g x hi dep Dh a E P FE Nn mx D T B M) (ht : t < nn (Nn dep 0)) : (xbind (xgR 1 0 (some (n + 1))) fun v4 => xbind (xsel v4 [(2, fun z => fJ2_get z (Int32.ofNat t))]) fun v8 => xbind (xcst (fun c => c == 19) v8) fun _ => xpure v8) Γ g m = some (.inl (some (E dep t 0)), g, 0, 0) := by
  have F := R.now
  have a0 := R.2.2.2.1 0
  have W : kW g x (a dep 0) (a dep 1) (a dep 2) (a dep 3) (E dep) P FE (Nn dep) := ⟨R.1.1, R.1.2.1, F.2.2.2.1, F.1, F.2.2.2.2.2⟩
  have e1 := kw_al (Γ := Γ) (n := m) W
  rw [a0] at e1
  rw [x_b1 e1, x_b1 (kw_get W ht), x_b1 (kw_cst W ht)]
  rfl
end RE
