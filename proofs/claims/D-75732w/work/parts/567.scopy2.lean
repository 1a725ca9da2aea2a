/-! part 567: a state is copied -/
theorem xadd_add {α : Type} {c s c2 s2 : Nat} {r : Option ((α ⊕ Nat) × xH × Nat × Nat)} : xadd c s (xadd c2 s2 r) = xadd (c + c2) (s + s2) r := by
  cases r with
  | none => rfl
  | some z =>
    obtain ⟨o, h, a, b⟩ := z
    show some (o, h, c + (c2 + a), s + (s2 + b)) = some (o, h, c + c2 + a, s + s2 + b)
    rw [Nat.add_assoc, Nat.add_assoc]
theorem xadd_0 {α : Type} {r : Option ((α ⊕ Nat) × xH × Nat × Nat)} : xadd 0 0 r = r := by
  cases r with
  | none => rfl
  | some z =>
    obtain ⟨o, h, a, b⟩ := z
    show some (o, h, 0 + a, 0 + b) = some (o, h, a, b)
    rw [Nat.zero_add, Nat.zero_add]
theorem kAl.congr {h : xH} {al ae c : Nat} {F G : Nat → Nat} (A : kAl h al ae c F) (e : ∀ t, t < c → F t = G t) : kAl h al ae c G := by
  obtain ⟨h1, h2, h3, h4, h5, h6, h7⟩ := A
  exact ⟨h1, h2, h3, h4, h5, h6, fun t ht => by rw [h7 t ht, e t ht]⟩
/-- flags are 0 or 1 -/
def okG (N : Nat → Int32) : Prop := ∀ t, t < nn (N 0) → N (zI t 6) = Int32.ofNat 0 ∨ N (zI t 6) = Int32.ofNat 1
/-- new cells of a state's herds: between a and b, all different -/
def kFr (c a b : Nat) (E : Nat → Nat → Nat) : Prop := (∀ t k, t < c → k < 7 → a ≤ E t k ∧ E t k < b) ∧ ∀ t k t' k', t < c → k < 7 → t' < c → k' < 7 → E t k = E t' k' → t = t' ∧ k = k'
section SC2
variable {Γ : Nat → Option Nat} {h : xH} {n al ae st : Nat} {E : Nat → Nat → Nat} {P FE : Nat → Nat} {N : Nat → Int32}
theorem k_sCopy18 (hb : xbd n h) (A : kAl h al ae (nn (N 0)) (fun t => E t 0)) (Hd : ∀ t, t < nn (N 0) → kHd h (E t) (P t) N t) (Sp : ∀ t, t < nn (N 0) → kSpN h (P t) (FE t) N t) (fl : okG N) :
    ∀ (r t fu m : Nat) (g : xH) (E' : Nat → Nat → Nat), t + r = nn (N 0) → r < fu → n + 5 ≤ m → hsub h g → xbd m g → g n = some (true, .inr (1, [.ref (n + 1), .ref (n + 3), .int 0, .int 0, .int 0])) → g (n + 3) = some (true, .inr (6, [.int 0, .int 0, .null, .null])) → kAl g (n + 1) (n + 2) t (fun j => E' j 0) → kIa g (n + 4) al t → (∀ j, j < t → kHd g (E' j) (P j) N j) → kFr t (n + 5) m E' →
    ∃ g' E'' dc ds, fX2_copy_p18 fu st n (some (n + 4)) Γ g m = xadd dc ds ((xbind (xgR 1 1 (some st)) fun v55 => xbind (xsel v55 [(6, fun z => fJ18_iterator__J19 z)]) fun v58 => fX2_copy_p62 xFU st n v58) Γ g' (m + dc)) ∧ dc ≤ 10 * r ∧ ds ≤ 200 * r ∧ hsub h g' ∧ xbd (m + dc) g' ∧ g' n = some (true, .inr (1, [.ref (n + 1), .ref (n + 3), .int 0, .int 0, .int 0])) ∧ g' (n + 3) = some (true, .inr (6, [.int 0, .int 0, .null, .null])) ∧ kAl g' (n + 1) (n + 2) (nn (N 0)) (fun j => E'' j 0) ∧ (∀ j, j < nn (N 0) → kHd g' (E'' j) (P j) N j) ∧ kFr (nn (N 0)) (n + 5) (m + dc) E'' := by
  have c4 := A.2.2.2.2.2.1
  intro r
  induction r with
  | zero =>
    intro t fu m g E' ht hf hm hs hbm gn g3 A' I Hj Fr
    obtain ⟨fu, rfl⟩ : ∃ g, fu = g + 1 := ⟨fu - 1, by omega⟩
    obtain rfl : t = nn (N 0) := by omega
    have Ag : kAl g al ae (nn (N 0)) (fun t => E t 0) := A.cg (hs _ (yO_at (yO_of _ _ _ A.1))) (hs _ (yA_at (yA_of _ _ _ A.2.2.1)))
    have hh := k_iaHas (Γ := Γ) (n := m) Ag I (Nat.le_refl _)
    rw [if_pos rfl] at hh
    refine ⟨g, E', 0, 0, ?_, by omega, by omega, hs, hbm, gn, g3, A', Hj, Fr⟩
    rw [fX2_copy_p18, x_b1 hh, if_pos (by decide), xadd_0, Nat.add_zero]
  | succ r ih =>
    intro t fu m g E' ht hf hm hs hbm gn g3 A' I Hj Fr
    obtain ⟨fu, rfl⟩ : ∃ g, fu = g + 1 := ⟨fu - 1, by omega⟩
    have Ag : kAl g al ae (nn (N 0)) (fun t => E t 0) := A.cg (hs _ (yO_at (yO_of _ _ _ A.1))) (hs _ (yA_at (yA_of _ _ _ A.2.2.1)))
    have hh := k_iaHas (Γ := Γ) (n := m) Ag I (show t ≤ nn (N 0) by omega)
    rw [if_neg (by omega)] at hh
    obtain ⟨g1, e1, e2, e3, e4⟩ := k_iaNext (Γ := Γ) (n := m) Ag I (show t < nn (N 0) by omega)
    have s1 : hsub h g1 := fun a ha => by
      have := xbd_lt hb ha
      rw [e3 a (by omega)]
      exact hs a ha
    have b1 : xbd m g1 := xbd_hd hbm e4
    have H1 := (Hd t (by omega)).mono s1
    obtain ⟨g2, Y', dc1, ds1, f1, f2, f3, f4, f5, f6, f7, f8, f9⟩ := k_hCopy (Γ := Γ) H1 ((Sp t (by omega)).mono s1) b1 (fl t (by omega))
    have c19 : xcst (fun c => c == 19) (some (E t 0)) Γ g1 m = some (.inl (), g1, 0, 0) := k_cst (yO_of _ _ _ H1.1) rfl
    have gn1 : g1 n = some (true, .inr (1, [.ref (n + 1), .ref (n + 3), .int 0, .int 0, .int 0])) := (e3 _ (by omega)).trans gn
    have gr : xgR 1 0 (some n) Γ g1 m = some (.inl (some (n + 1)), g1, 0, 0) := by
      unfold xgR xget xobj
      simp only [gn1]
      rfl
    have nz : ∀ {a : Nat} {c : xAC}, g1 a = some c → g1 a ≠ none := fun e z => by rw [e] at z; nomatch z
    have A1 : kAl g1 (n + 1) (n + 2) t (fun j => E' j 0) := A'.cg (e3 _ (by omega)) (e3 _ (by omega))
    have A2 : kAl g2 (n + 1) (n + 2) t (fun j => E' j 0) := A1.cg (f4 _ (yO_at (yO_of _ _ _ A1.1))) (f4 _ (yA_at (yA_of _ _ _ A1.2.2.1)))
    have ym : yO g2 19 m := by rw [← f7]; exact yO_of _ _ _ f6.1
    obtain ⟨g3', a1, a2, a3, a4⟩ := k_alAdd (Γ := Γ) (n := m + dc1) A2 (by omega) ym rfl
    have s3 : hsub h g3' := fun a ha => by
      have := xbd_lt hb ha
      rw [a4 a (by omega) (by omega)]
      exact (s1.trans f4) a ha
    have ltY : ∀ k, k < 7 → Y' k < m + dc1 := fun k hk => xbd_lt f5 (f6.at k (by omega))
    have Fr' : kFr (t + 1) (n + 5) (m + dc1) (fun j => if j = t then Y' else E' j) := by
      constructor
      · intro j k hj hk
        dsimp only
        by_cases e : j = t
        · rw [if_pos e]
          have := f8 k hk
          have := ltY k hk
          omega
        · rw [if_neg e]
          have := Fr.1 j k (by omega) hk
          omega
      · intro j k j' k' hj hk hj' hk'
        dsimp only
        by_cases e : j = t
        · by_cases e' : j' = t
          · rw [if_pos e, if_pos e']
            intro z
            exact ⟨by omega, f9 k k' hk hk' z⟩
          · rw [if_pos e, if_neg e']
            intro z
            have := f8 k hk
            have := Fr.1 j' k' (by omega) hk'
            omega
        · by_cases e' : j' = t
          · rw [if_neg e, if_pos e']
            intro z
            have := f8 k' hk'
            have := Fr.1 j k (by omega) hk
            omega
          · rw [if_neg e, if_neg e']
            exact Fr.2 j k j' k' (by omega) hk (by omega) hk'
    have gn3 : g3' n = some (true, .inr (1, [.ref (n + 1), .ref (n + 3), .int 0, .int 0, .int 0])) := (a4 _ (by omega) (by omega)).trans ((f4 _ (nz gn1)).trans gn1)
    have g31 : g1 (n + 3) = some (true, .inr (6, [.int 0, .int 0, .null, .null])) := (e3 _ (by omega)).trans g3
    have I3 : kIa g3' (n + 4) al (t + 1) := by
      have al0 : al < n := xbd_lt hb (yO_at (yO_of _ _ _ A.1))
      exact e2.cg ((a4 _ (by omega) (by omega)).trans (f4 _ (yO_at (yO_of _ _ _ e2.1)))) ((a4 _ (by omega) (by omega)).trans (f4 _ (by rw [s1 _ (yO_at (yO_of _ _ _ A.1))]; exact yO_at (yO_of _ _ _ A.1))))
    obtain ⟨g', E'', dc2, ds2, r1, r2, r3, r4⟩ := ih (t + 1) fu (m + dc1) g3' (fun j => if j = t then Y' else E' j) (by omega) (by omega) (by omega) s3 (xbd_hd f5 a3) gn3 ((a4 _ (by omega) (by omega)).trans ((f4 _ (nz g31)).trans g31)) (a2.congr (fun j hj => by
      rw [va_ap]
      by_cases e : j = t
      · rw [if_pos e, if_pos e, f7]
      · rw [if_neg e, if_neg e])) I3 (fun j hj => by
      show kHd g3' (if j = t then Y' else E' j) (P j) N j
      by_cases e : j = t
      · rw [if_pos e]
        subst e
        refine f6.cg (fun k hk => ?_) (fun q hq => ?_)
        · have := f8 k (by omega)
          exact a4 _ (by omega) (by omega)
        · refine a4 _ (fun z => ?_) (fun z => ?_)
          · exact absurd (yO_uq hq (by rw [z]; exact yO_of _ _ _ A2.1)) (by omega)
          · exact yA_no (yA_of _ _ _ A2.2.2.1) (by rw [← z]; exact hq)
      · rw [if_neg e]
        have K1 := (Hj j (by omega)).cg (g := g1) (fun k hk => by
          have := Fr.1 j k (by omega) (by omega)
          exact e3 _ (by omega)) (fun q hq => e3 _ (fun z => absurd (yO_uq (d := 7) hq (by rw [z]; exact yO_of _ _ _ I.1)) (by omega)))
        have K2 := K1.mono f4
        refine K2.cg (fun k hk => ?_) (fun q hq => ?_)
        · have := Fr.1 j k (by omega) (by omega)
          exact a4 _ (by omega) (by omega)
        · refine a4 _ (fun z => ?_) (fun z => ?_)
          · exact absurd (yO_uq hq (by rw [z]; exact yO_of _ _ _ A2.1)) (by omega)
          · exact yA_no (yA_of _ _ _ A2.2.2.1) (by rw [← z]; exact hq)) Fr'
    refine ⟨g', E'', dc1 + dc2, ds1 + ds2, ?_, by omega, by omega, r4.1, by rw [← Nat.add_assoc]; exact r4.2.1, r4.2.2.1, r4.2.2.2.1, r4.2.2.2.2.1, r4.2.2.2.2.2.1, by rw [← Nat.add_assoc]; exact r4.2.2.2.2.2.2⟩
    rw [fX2_copy_p18, x_b1 hh, if_neg (by decide), x_b1 e1, x_b1 c19, x_b1 gr, x_bc f1, x_b1 a1, r1, xadd_add, Nat.add_assoc]
end SC2
