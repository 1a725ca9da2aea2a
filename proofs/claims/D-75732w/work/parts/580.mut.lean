/-! part 580: changing a herd of a recorded state -/
/-- what holds behind an action: N' are the new numbers -/
def kMr (h : xH) (n x hi dep : Nat) (Dh : Nat → Nat) (a : Nat → Nat → Nat) (E : Nat → Nat → Nat → Nat) (P FE : Nat → Nat) (Nn : Nat → Nat → Int32) (mx : Nat → Nat) (D T B M : Nat → Nat → Nat) (N' : Nat → Int32) (mx' : Nat) (g : xH) (dc : Nat) : Prop :=
  ∃ n0 Dh' E' D' T' B' M', n ≤ n0 ∧ kRec n0 (n + dc) g x hi (dep + 1 - shD dep) Dh' (shF dep a (fun k => n0 + 1 + k)) (shF dep E E') P FE (shF dep Nn N') (shF dep mx mx') (shF dep D D') (shF dep T T') (shF dep B B') (shF dep M M') ∧ (∀ k, k ≠ 4 → yr g 0 k x = yr h 0 k x) ∧ (∀ k, yi g 0 k x = yi h 0 k x) ∧ (∀ q, h q ≠ none → q ≠ x → q ≠ hi → (∀ k, k < dep → q ≠ Dh k) → g q = h q)
section MU
variable {Γ : Nat → Option Nat} {h g g' : xH} {n m m' x hi dep t : Nat} {Dh P FE mx Y' : Nat → Nat} {a D T B M : Nat → Nat → Nat} {E : Nat → Nat → Nat → Nat} {Nn : Nat → Nat → Int32} {N' : Nat → Int32}
theorem kRec.cgE {E' : Nat → Nat → Nat → Nat} {Nn' : Nat → Nat → Int32} {mx' : Nat → Nat} {D' T' B' M' : Nat → Nat → Nat} (R : kRec n m g x hi dep Dh a E P FE Nn mx D T B M) (e2 : ∀ i, i ≤ dep → E' i = E i) (e3 : ∀ i, i ≤ dep → Nn' i = Nn i) (e4 : ∀ i, i ≤ dep → mx' i = mx i) (e5 : ∀ i, i ≤ dep → D' i = D i) (e6 : ∀ i, i ≤ dep → T' i = T i) (e7 : ∀ i, i ≤ dep → B' i = B i) (e8 : ∀ i, i ≤ dep → M' i = M i) : kRec n m g x hi dep Dh a E' P FE Nn' mx' D' T' B' M' := by
  obtain ⟨h1, h2, h3, h4, h5, h6, h7, h8, h9⟩ := R
  refine ⟨h1.cgE (fun _ _ => rfl) e2 e3 e4 e5 e6 e7 e8, h2, fun i hi' => ?_, h4, ?_, ?_, ?_, ?_, h9⟩
  · rw [e2 i (by omega), e3 i (by omega), e4 i (by omega), e5 i (by omega), e6 i (by omega), e7 i (by omega), e8 i (by omega)]
    exact h3 i hi'
  · rw [e2 dep (by omega), e3 dep (by omega)]; exact h5
  · rw [e3 dep (by omega), e5 dep (by omega)]; exact h6
  · rw [e2 dep (by omega), e3 dep (by omega), e5 dep (by omega)]; exact h7
  · rw [e3 dep (by omega)]; exact h8
theorem shF_up {α : Type} {f : Nat → α} {y z : α} {i : Nat} (hi' : i ≤ dep + 1 - shD dep) : shF dep f z i = va_up (shF dep f y) (dep + 1 - shD dep) z i := by
  rw [va_ap]
  by_cases c : i = dep + 1 - shD dep
  · rw [if_pos c, c, shF_eq]
  · rw [if_neg c, shF_lt (by omega), shF_lt (by omega)]
/-- the cells of a new herd -/
theorem kRec.hD (R : kRec n m g x hi dep Dh a E P FE Nn mx D T B M) (ht : t < nn (Nn dep 0)) : hD (E dep t) := fun j k hj hk z => (R.2.2.2.2.1.2 t j t k ht (by omega) ht (by omega) z).2
theorem kRec.hv (R : kRec n m g x hi dep Dh a E P FE Nn mx D T B M) (ht : t < nn (Nn dep 0)) : ∃ q, g = hV g (E dep t) (P t) q ∧ hA q (Nn dep) t := (R.now.1.2.2.2.2.2.2.2.2.2.2.2 t ht).hv (R.hD ht)
theorem kRec.put {q' : hP} (R : kRec n m g x hi dep Dh a E P FE Nn mx D T B M) (ht : t < nn (Nn dep 0)) (A : hA q' N' t) (z : ∀ j, j < 13 → nn (N' (zI t 1)) < j → N' (zI t (39 + j)) = Int32.ofNat 0)
    (n1 : ∀ j, j < 592 → (∀ w, w < 132 → j ≠ zI t w) → N' j = Nn dep j) (n2 : ∀ w, w < 132 → (w < 3 ∨ w = 12 ∨ (26 ≤ w ∧ w < 39) ∨ 52 ≤ w) → N' (zI t w) = Nn dep (zI t w)) (og : okG N') : kRec n m (hV g (E dep t) (P t) q') x hi dep Dh a E P FE (va_up Nn dep N') mx D T B M := by
  have K := R.now.1.2.2.2.2.2.2.2.2.2.2.2 t ht
  have Fr := R.2.2.2.2.1
  have inj : ∀ j k, j < 7 → k < 7 → E dep t j = E dep t k → j = k := fun j k hj hk zz => (Fr.2 t j t k ht hj ht hk zz).2
  obtain ⟨Q, Dq, S⟩ := K.2.2.2.2.2.2.2.2.2.2.2.2.2.2
  have S' : kSg g Q N' t := ⟨by rw [n2 12 (by omega) (by omega)]; exact S.1, S.2.1, fun i hi' => ⟨(S.2.2 i hi').1, fun w hw => by
    have := S.2.1
    rw [n2 _ (by omega) (by omega)]; exact (S.2.2 i hi').2 w hw⟩⟩
  have K' : kHd (hV g (E dep t) (P t) q') (E dep t) (P t) N' t := hv_kHd (R.hD ht) A z (fun k hk zz => absurd (inj 5 k (by omega) (by omega) zz) (by omega)) (fun k hk zz => absurd (inj 6 k (by omega) (by omega) zz) (by omega)) Dq S' (fun r hr k hk => K.nc hr (by omega) k (by omega))
  have fr : ∀ q, g q ≠ none → (∀ k, k < 7 → q ≠ E dep t k) → hV g (E dep t) (P t) q' q = g q := fun q _ hq => hv_o (fun k hk => hq k (by omega))
  have hb := R.2.2.2.2.2.2.2.2
  have hb' : xbd m (hV g (E dep t) (P t) q') := fun q hq => by
    rw [hv_o (fun k hk => by have := Fr.1 t k ht (by omega); omega)]
    exact hb q hq
  have R' := R.set (Y' := E dep t) ht (Nat.le_refl _) hb' fr K' rfl (fun k hk => Or.inl rfl) inj n1 (fun w hw hc => n2 w hw (by omega)) og
  refine R'.cgE (fun i hi' => ?_) (fun _ _ => rfl) (fun _ _ => rfl) (fun _ _ => rfl) (fun _ _ => rfl) (fun _ _ => rfl) (fun _ _ => rfl)
  rw [va_ap]
  by_cases c : i = dep
  · rw [if_pos c, c]
    funext j
    by_cases cj : j = t
    · rw [if_pos cj, cj]
    · rw [if_neg cj]
  · rw [if_neg c]
theorem k_changed (H : kHs h x hi dep Dh a E P FE Nn mx D T B M) (hb : xbd n h) (ht : t < nn (Nn dep 0)) :
    ∃ g Y q dc ds, xsel (some x) [(0, fun z => fX1_changed z (Int32.ofNat t))] Γ h n = some (.inl (some (Y 0)), hV g Y (P t) q, dc, ds) ∧ dc ≤ 61 ∧ ds ≤ 910 ∧ hD Y ∧ hA q (Nn dep) t ∧ (∀ q' N', hA q' N' t → (∀ j, j < 13 → nn (N' (zI t 1)) < j → N' (zI t (39 + j)) = Int32.ofNat 0) → (∀ j, j < 592 → (∀ w, w < 132 → j ≠ zI t w) → N' j = Nn dep j) → (∀ w, w < 132 → (w < 3 ∨ w = 12 ∨ (26 ≤ w ∧ w < 39) ∨ 52 ≤ w) → N' (zI t w) = Nn dep (zI t w)) → okG N' → kMr h n x hi dep Dh a E P FE Nn mx D T B M N' (mx dep) (hV g Y (P t) q') dc) := by
  obtain ⟨g, Dh', E', D', T', dc, ds, r1, r2, r3, R, r5, r6, r7, r8⟩ := k_rec (Γ := Γ) H hb
  have e0 : shF dep Nn (Nn dep) (dep + 1 - shD dep) = Nn dep := shF_eq
  have eE : shF dep E E' (dep + 1 - shD dep) = E' := shF_eq
  have ht' : t < nn (shF dep Nn (Nn dep) (dep + 1 - shD dep) 0) := by rw [e0]; exact ht
  obtain ⟨q, hq, A⟩ := R.hv ht'
  have hd := R.hD ht'
  have Fr := R.2.2.2.2.1
  have gt := R.get (Γ := Γ) ht'
  rw [eE] at hq hd gt Fr
  rw [e0] at A Fr
  have oX := yO_of _ _ _ H.1
  refine ⟨g, E' t, q, dc, ds, ?_, r2, r3, hd, A, fun q' N' A' z n1 n2 og => ?_⟩
  · rw [e_sel oX]
    unfold fX1_changed
    rw [x_bc r1, gt, ← hq]
    rfl
  · have R' := R.put (q' := q') (N' := N') ht' A' z (by rw [e0]; exact n1) (by rw [e0]; exact n2) og
    rw [eE] at R'
    have low : ∀ q, h q ≠ none → ∀ k, k < 5 → q ≠ E' t k := fun q hq' k hk => by
      have := xbd_lt hb hq'
      have := Fr.1 t k ht (by omega)
      omega
    have xl := yO_at oX
    refine ⟨n, Dh', E', D', T', B dep, M dep, Nat.le_refl _, R'.cgE (fun _ _ => rfl) (fun i hi' => shF_up hi') (fun _ _ => rfl) (fun _ _ => rfl) (fun _ _ => rfl) (fun _ _ => rfl) (fun _ _ => rfl), fun k hk => ?_, fun k => ?_, fun q hq' h1 h2 h3 => ?_⟩
    · rw [yr_c (hv_o (low x xl))]; exact r5 k hk
    · rw [yi_c (hv_o (low x xl))]; exact r6 k
    · rw [hv_o (low q hq')]; exact r7 q hq' h1 h2 h3
end MU
