/-! part 500: the computations are local: on a larger heap they do the same, and touch nothing else -/
def xu (h g : xH) : xH := fun a => match h a with
  | some c => some c
  | none => g a
def xL {α : Type} (c : xM α) : Prop := ∀ (Γ : Nat → Option Nat) (h : xH) (n : Nat) (r : α ⊕ Nat) (h' : xH) (dc ds : Nat), c Γ h n = some (r, h', dc, ds) → (∀ g, c Γ (xu h g) n = some (r, xu h' g, dc, ds)) ∧ (∀ a, h' a ≠ none → h a ≠ none ∨ (n ≤ a ∧ a < n + dc)) ∧ ∀ a, h a ≠ none → h' a ≠ none
theorem xu_some {h g : xH} {a : Nat} {c : xAC} (H : h a = some c) : xu h g a = some c := by unfold xu; rw [H]
theorem xu_none {h g : xH} {a : Nat} (H : h a = none) : xu h g a = g a := by unfold xu; rw [H]
theorem xu_upd {h g : xH} {a : Nat} {c : xAC} : xupd (xu h g) a c = xu (xupd h a c) g := by
  funext q
  unfold xupd xu
  by_cases e : q = a
  · simp only [if_pos e]
  · simp only [if_neg e]
theorem xobj_inv {h : xH} {r : Option Nat} {z : Nat × Nat × List Value} (H : xobj h r = some z) : ∃ w, r = some z.1 ∧ h z.1 = some (w, .inr (z.2.1, z.2.2)) := by
  unfold xobj at H
  split at H
  · cases H
  · split at H
    · rename_i a w ci fs hc
      cases H
      exact ⟨w, rfl, hc⟩
    · cases H
theorem xobj_xu {h g : xH} {r : Option Nat} {z : Nat × Nat × List Value} (H : xobj h r = some z) : xobj (xu h g) r = some z := by
  obtain ⟨w, rfl, hc⟩ := xobj_inv H
  unfold xobj
  simp only [xu_some hc]
theorem xarr_inv {h : xH} {r : Option Nat} {z : Nat × Nat × vp_A} (H : xarr h r = some z) : ∃ w, r = some z.1 ∧ h z.1 = some (w, .inl (z.2.1, z.2.2)) := by
  unfold xarr at H
  split at H
  · cases H
  · split at H
    · rename_i a w ci fs hc
      cases H
      exact ⟨w, rfl, hc⟩
    · cases H
theorem xarr_xu {h g : xH} {r : Option Nat} {z : Nat × Nat × vp_A} (H : xarr h r = some z) : xarr (xu h g) r = some z := by
  obtain ⟨w, rfl, hc⟩ := xarr_inv H
  unfold xarr
  simp only [xu_some hc]
theorem xokR_xu {h g : xH} {ok : Nat → Bool} {v : Option Nat} (H : xokR h ok v = true) : xokR (xu h g) ok v = true := by
  unfold xokR at H ⊢
  split
  · rfl
  · rename_i a
    split at H
    · rename_i a' hz; cases hz
    · rename_i a' hz
      cases hz
      split at H
      · rename_i a2 c fs ho
        rw [xobj_xu ho]
        exact H
      · cases H
section XL
variable {α β : Type}
theorem xL_pure (a : α) : xL (xpure a) := by
  intro Γ h n r h' dc ds H
  cases H
  exact ⟨fun _ => rfl, fun a ha => Or.inl ha, fun a ha => ha⟩
theorem xL_stuck : xL (xstuck : xM α) := by
  intro Γ h n r h' dc ds H
  cases H
theorem xL_bind {f : xM α} {k : α → xM β} (hf : xL f) (hk : ∀ a, xL (k a)) : xL (xbind f k) := by
  intro Γ h n r h' dc ds H
  unfold xbind at H
  cases h1 : f Γ h n with
  | none => rw [h1] at H; cases H
  | some z =>
    obtain ⟨o, h1', c1, s1⟩ := z
    obtain ⟨a1, a2, a3⟩ := hf Γ h n _ _ _ _ h1
    rw [h1] at H
    cases o with
    | inr q =>
      cases H
      exact ⟨fun g => by unfold xbind; rw [a1 g], a2, a3⟩
    | inl a =>
      dsimp only at H
      cases h2 : k a Γ h1' (n + c1) with
      | none => rw [h2] at H; cases H
      | some z =>
        obtain ⟨o2, h2', c2, s2⟩ := z
        obtain ⟨b1, b2, b3⟩ := hk a Γ h1' (n + c1) _ _ _ _ h2
        rw [h2] at H
        cases H
        refine ⟨fun g => by unfold xbind; rw [a1 g]; dsimp only; rw [b1 g], fun q hq => ?_, fun q hq => b3 q (a3 q hq)⟩
        rcases b2 q hq with hq | hq
        · rcases a2 q hq with hq | hq
          · exact Or.inl hq
          · exact Or.inr (by omega)
        · exact Or.inr (by omega)
theorem xL_try {f : xM α} {k : α → xM β} {k2 : Nat → xM β} (hf : xL f) (hk : ∀ a, xL (k a)) (hk2 : ∀ a, xL (k2 a)) : xL (xtry f k k2) := by
  intro Γ h n r h' dc ds H
  unfold xtry at H
  cases h1 : f Γ h n with
  | none => rw [h1] at H; cases H
  | some z =>
    obtain ⟨o, h1', c1, s1⟩ := z
    obtain ⟨a1, a2, a3⟩ := hf Γ h n _ _ _ _ h1
    rw [h1] at H
    cases o with
    | inr a =>
      dsimp only at H
      cases h2 : k2 a Γ h1' (n + c1) with
      | none => rw [h2] at H; cases H
      | some z =>
        obtain ⟨o2, h2', c2, s2⟩ := z
        obtain ⟨b1, b2, b3⟩ := hk2 a Γ h1' (n + c1) _ _ _ _ h2
        rw [h2] at H
        cases H
        refine ⟨fun g => by unfold xtry; rw [a1 g]; dsimp only; rw [b1 g], fun q hq => ?_, fun q hq => b3 q (a3 q hq)⟩
        rcases b2 q hq with hq | hq
        · rcases a2 q hq with hq | hq
          · exact Or.inl hq
          · exact Or.inr (by omega)
        · exact Or.inr (by omega)
    | inl a =>
      dsimp only at H
      cases h2 : k a Γ h1' (n + c1) with
      | none => rw [h2] at H; cases H
      | some z =>
        obtain ⟨o2, h2', c2, s2⟩ := z
        obtain ⟨b1, b2, b3⟩ := hk a Γ h1' (n + c1) _ _ _ _ h2
        rw [h2] at H
        cases H
        refine ⟨fun g => by unfold xtry; rw [a1 g]; dsimp only; rw [b1 g], fun q hq => ?_, fun q hq => b3 q (a3 q hq)⟩
        rcases b2 q hq with hq | hq
        · rcases a2 q hq with hq | hq
          · exact Or.inl hq
          · exact Or.inr (by omega)
        · exact Or.inr (by omega)
theorem xL_let {a : α} {k : α → xM β} (hk : ∀ a, xL (k a)) : xL (xlet a k) := hk a
theorem xL_ite {c : Prop} [Decidable c] {f g : xM α} (hf : xL f) (hg : xL g) : xL (if c then f else g) := by
  split
  · exact hf
  · exact hg
/-- what reads only -/
theorem xL_read {c : xM α} (H : ∀ (Γ : Nat → Option Nat) (h : xH) (n : Nat) (r : α ⊕ Nat) (h' : xH) (dc ds : Nat), c Γ h n = some (r, h', dc, ds) → h' = h ∧ ∀ g, c Γ (xu h g) n = some (r, xu h g, dc, ds)) : xL c := by
  intro Γ h n r h' dc ds h1
  obtain ⟨rfl, h2⟩ := H Γ h n r h' dc ds h1
  exact ⟨h2, fun a ha => Or.inl ha, fun a ha => ha⟩
theorem xL_get (ci k : Nat) (r : Option Nat) : xL (xget ci k r) := xL_read (by
  intro Γ h n o h' dc ds H
  unfold xget at H ⊢
  split at H
  · rename_i a c fs ho
    split at H
    · rename_i hc
      split at H
      · rename_i v hv
        cases H
        refine ⟨rfl, fun g => ?_⟩
        rw [xobj_xu ho]
        simp only [hc, if_true, hv]
      · cases H
    · cases H
  · cases H)
theorem xget_id {ci k : Nat} {r : Option Nat} {Γ : Nat → Option Nat} {h : xH} {n : Nat} {o : Value ⊕ Nat} {h' : xH} {dc ds : Nat} (H : xget ci k r Γ h n = some (o, h', dc, ds)) : h' = h := by
  unfold xget at H
  split at H
  · split at H
    · split at H
      · cases H; rfl
      · cases H
    · cases H
  · cases H
theorem xL_gI (ci k : Nat) (r : Option Nat) : xL (xgI ci k r) := xL_read (by
  intro Γ h n o h' dc ds H
  unfold xgI at H ⊢
  split at H
  · rename_i v h1 c1 s1 hg
    cases H
    have e := xget_id hg
    subst e
    exact ⟨rfl, fun g => by rw [(xL_get ci k r Γ _ n _ _ _ _ hg).1 g]⟩
  · cases H)
theorem xL_gJ (ci k : Nat) (r : Option Nat) : xL (xgJ ci k r) := xL_read (by
  intro Γ h n o h' dc ds H
  unfold xgJ at H ⊢
  split at H
  · rename_i v h1 c1 s1 hg
    cases H
    have e := xget_id hg
    subst e
    exact ⟨rfl, fun g => by rw [(xL_get ci k r Γ _ n _ _ _ _ hg).1 g]⟩
  · cases H)
theorem xL_gR (ci k : Nat) (r : Option Nat) : xL (xgR ci k r) := xL_read (by
  intro Γ h n o h' dc ds H
  unfold xgR at H ⊢
  split at H
  · rename_i v h1 c1 s1 hg
    cases H
    have e := xget_id hg
    subst e
    exact ⟨rfl, fun g => by rw [(xL_get ci k r Γ _ n _ _ _ _ hg).1 g]⟩
  · rename_i h1 c1 s1 hg
    cases H
    have e := xget_id hg
    subst e
    exact ⟨rfl, fun g => by rw [(xL_get ci k r Γ _ n _ _ _ _ hg).1 g]⟩
  · cases H)
/-- one cell that is there is changed -/
theorem xL_write {c : xM α} (H : ∀ (Γ : Nat → Option Nat) (h : xH) (n : Nat) (r : α ⊕ Nat) (h' : xH) (dc ds : Nat), c Γ h n = some (r, h', dc, ds) → ∃ a x, h a ≠ none ∧ h' = xupd h a x ∧ ∀ g, c Γ (xu h g) n = some (r, xupd (xu h g) a x, dc, ds)) : xL c := by
  intro Γ h n r h' dc ds h1
  obtain ⟨a, x, ha, rfl, h2⟩ := H Γ h n r h' dc ds h1
  refine ⟨fun g => by rw [h2 g, xu_upd], fun q hq => ?_, fun q hq => ?_⟩
  · unfold xupd at hq
    by_cases e : q = a
    · subst e; exact Or.inl ha
    · rw [if_neg e] at hq; exact Or.inl hq
  · unfold xupd
    by_cases e : q = a
    · rw [if_pos e]; exact fun z => nomatch z
    · rw [if_neg e]; exact hq
/-- one cell is made -/
theorem xL_make {c : xM α} (H : ∀ (Γ : Nat → Option Nat) (h : xH) (n : Nat) (r : α ⊕ Nat) (h' : xH) (dc ds : Nat), c Γ h n = some (r, h', dc, ds) → ∃ x, dc = 1 ∧ h' = xupd h n x ∧ ∀ g, c Γ (xu h g) n = some (r, xupd (xu h g) n x, dc, ds)) : xL c := by
  intro Γ h n r h' dc ds h1
  obtain ⟨x, rfl, rfl, h2⟩ := H Γ h n r h' dc ds h1
  refine ⟨fun g => by rw [h2 g, xu_upd], fun q hq => ?_, fun q hq => ?_⟩
  · unfold xupd at hq
    by_cases e : q = n
    · subst e; exact Or.inr ⟨Nat.le_refl _, Nat.lt_succ_self _⟩
    · rw [if_neg e] at hq; exact Or.inl hq
  · unfold xupd
    by_cases e : q = n
    · rw [if_pos e]; exact fun z => nomatch z
    · rw [if_neg e]; exact hq
theorem some_ne {β : Type} {x : Option β} {c : β} (h : x = some c) : x ≠ none := fun z => nomatch (h.symm.trans z)
theorem xL_put (ci k : Nat) (r : Option Nat) (v : Value) : xL (xput ci k r v) := xL_write (by
  intro Γ h n o h' dc ds H
  unfold xput at H ⊢
  split at H
  · cases H
  · rename_i a
    split at H
    · rename_i c fs hc
      split at H
      · rename_i hg
        cases H
        exact ⟨a, _, some_ne hc, rfl, fun g => by simp only [xu_some hc]; rw [if_pos hg]⟩
      · cases H
    · cases H)
theorem xL_pN (ci k : Nat) (ty : FieldType) (r : Option Nat) (v : Int32) : xL (xpN ci k ty r v) := by
  intro Γ h n o h' dc ds H
  unfold xpN at H ⊢
  split at H
  · rename_i hc
    simp only [if_pos hc]
    exact xL_put ci k r (.int v) Γ h n o h' dc ds H
  · cases H
theorem xL_new (ci : Nat) (fs : List Value) (sz : Nat) : xL (xnew ci fs sz) := xL_make (by
  intro Γ h n o h' dc ds H
  cases H
  exact ⟨_, rfl, rfl, fun g => rfl⟩)
theorem xL_mk (ci : Nat) : xL (xmk ci) := xL_make (by
  intro Γ h n o h' dc ds H
  cases H
  exact ⟨_, rfl, rfl, fun g => rfl⟩)
theorem xL_newA (t : Nat) (x : Nat → vp_A) (i : Int32) : xL (xnewA t x i) := xL_make (by
  intro Γ h n o h' dc ds H
  unfold xnewA at H ⊢
  split at H
  · rename_i hc
    cases H
    exact ⟨_, rfl, rfl, fun g => if_pos hc⟩
  · cases H)
theorem xL_len (r : Option Nat) : xL (xlen r) := xL_read (by
  intro Γ h n o h' dc ds H
  unfold xlen at H ⊢
  split at H
  · rename_i a t x hx
    cases H
    exact ⟨rfl, fun g => by rw [xarr_xu hx]⟩
  · cases H)
theorem xL_ldI (t : Nat) (r : Option Nat) (i : Int32) : xL (xldI t r i) := xL_read (by
  intro Γ h n o h' dc ds H
  unfold xldI at H ⊢
  split at H
  · rename_i a u nn f hx
    split at H
    · rename_i hc
      cases H
      exact ⟨rfl, fun g => by rw [xarr_xu hx]; exact if_pos hc⟩
    · cases H
  · cases H)
theorem xL_ldJ (t : Nat) (r : Option Nat) (i : Int32) : xL (xldJ t r i) := xL_read (by
  intro Γ h n o h' dc ds H
  unfold xldJ at H ⊢
  split at H
  · rename_i a u nn f hx
    split at H
    · rename_i hc
      cases H
      exact ⟨rfl, fun g => by rw [xarr_xu hx]; exact if_pos hc⟩
    · cases H
  · cases H)
theorem xL_ldD (t : Nat) (r : Option Nat) (i : Int32) : xL (xldD t r i) := xL_read (by
  intro Γ h n o h' dc ds H
  unfold xldD at H ⊢
  split at H
  · rename_i a u nn f hx
    split at H
    · rename_i hc
      cases H
      exact ⟨rfl, fun g => by rw [xarr_xu hx]; exact if_pos hc⟩
    · cases H
  · cases H)
theorem xL_ldR (r : Option Nat) (i : Int32) : xL (xldR r i) := xL_read (by
  intro Γ h n o h' dc ds H
  unfold xldR at H ⊢
  split at H
  · rename_i a u nn f hx
    split at H
    · rename_i hc
      cases H
      exact ⟨rfl, fun g => by rw [xarr_xu hx]; exact if_pos hc⟩
    · cases H
  · cases H)
theorem xL_stI (t : Nat) (r : Option Nat) (i v : Int32) : xL (xstI t r i v) := xL_write (by
  intro Γ h n o h' dc ds H
  unfold xstI at H ⊢
  split at H
  · cases H
  · rename_i a
    split at H
    · rename_i u nn f hc
      split at H
      · rename_i hg
        cases H
        exact ⟨a, _, some_ne hc, rfl, fun g => by simp only [xu_some hc]; rw [if_pos hg]⟩
      · cases H
    · cases H)
theorem xL_stJ (t : Nat) (r : Option Nat) (i : Int32) (v : Int64) : xL (xstJ t r i v) := xL_write (by
  intro Γ h n o h' dc ds H
  unfold xstJ at H ⊢
  split at H
  · cases H
  · rename_i a
    split at H
    · rename_i u nn f hc
      split at H
      · rename_i hg
        cases H
        exact ⟨a, _, some_ne hc, rfl, fun g => by simp only [xu_some hc]; rw [if_pos hg]⟩
      · cases H
    · cases H)
theorem xL_stD (t : Nat) (r : Option Nat) (i : Int32) (v : UInt64) : xL (xstD t r i v) := xL_write (by
  intro Γ h n o h' dc ds H
  unfold xstD at H ⊢
  split at H
  · cases H
  · rename_i a
    split at H
    · rename_i u nn f hc
      split at H
      · rename_i hg
        cases H
        exact ⟨a, _, some_ne hc, rfl, fun g => by simp only [xu_some hc]; rw [if_pos hg]⟩
      · cases H
    · cases H)
theorem xL_stR (t : Nat) (ok : Nat → Bool) (r : Option Nat) (i : Int32) (v : Option Nat) : xL (xstR t ok r i v) := xL_write (by
  intro Γ h n o h' dc ds H
  unfold xstR at H ⊢
  split at H
  · cases H
  · rename_i a
    split at H
    · rename_i u nn f hc
      split at H
      · rename_i hg
        cases H
        exact ⟨a, _, some_ne hc, rfl, fun g => by simp only [xu_some hc]; rw [if_pos ⟨hg.1, hg.2.1, xokR_xu hg.2.2⟩]⟩
      · cases H
    · cases H)
theorem xL_con (k : Nat) : xL (xcon k) := xL_read (by
  intro Γ h n o h' dc ds H
  cases H
  exact ⟨rfl, fun g => rfl⟩)
def xLs (l : List (Nat × (Nat → xM α))) : Prop := ∀ x ∈ l, ∀ a, xL (x.2 a)
theorem xLs_nil : xLs ([] : List (Nat × (Nat → xM α))) := fun x hx => nomatch hx
theorem xLs_cons {c : Nat} {f : Nat → xM α} {l : List (Nat × (Nat → xM α))} (hf : ∀ a, xL (f a)) (hl : xLs l) : xLs ((c, f) :: l) := by
  intro x hx
  rw [List.mem_cons] at hx
  rcases hx with rfl | hx
  · exact hf
  · exact hl x hx
theorem lookup_mem {l : List (Nat × (Nat → xM α))} {c : Nat} {f : Nat → xM α} (h : l.lookup c = some f) : ∃ k, (k, f) ∈ l := by
  induction l with
  | nil => cases h
  | cons x l ih =>
    obtain ⟨k, g⟩ := x
    unfold List.lookup at h
    split at h
    · cases h; exact ⟨k, List.mem_cons_self⟩
    · obtain ⟨k2, h2⟩ := ih h
      exact ⟨k2, List.mem_cons_of_mem _ h2⟩
theorem xL_sel {r : Option Nat} {l : List (Nat × (Nat → xM α))} (hl : xLs l) : xL (xsel r l) := by
  intro Γ h n o h' dc ds H
  unfold xsel at H
  split at H
  · rename_i a c fs ho
    split at H
    · rename_i f hf
      obtain ⟨k, hk⟩ := lookup_mem hf
      obtain ⟨a1, a2, a3⟩ := hl _ hk a Γ h n o h' dc ds H
      refine ⟨fun g => ?_, a2, a3⟩
      unfold xsel
      rw [xobj_xu ho]
      simp only [hf]
      exact a1 g
    · cases H
  · cases H
theorem xL_nn {r : Option Nat} {f : Nat → xM α} (hf : ∀ a, xL (f a)) : xL (xnn r f) := by
  intro Γ h n o h' dc ds H
  unfold xnn at H ⊢
  split at H
  · exact hf _ Γ h n o h' dc ds H
  · cases H
theorem xL_throw (r : Option Nat) : xL (xthrow r : xM α) := xL_read (by
  intro Γ h n o h' dc ds H
  unfold xthrow at H ⊢
  split at H
  · rename_i a c fs ho
    cases H
    exact ⟨rfl, fun g => by rw [xobj_xu ho]⟩
  · cases H)
theorem xL_cst (ok : Nat → Bool) (r : Option Nat) : xL (xcst ok r) := xL_read (by
  intro Γ h n o h' dc ds H
  unfold xcst at H ⊢
  split at H
  · rename_i hc
    cases H
    exact ⟨rfl, fun g => if_pos (xokR_xu hc)⟩
  · cases H)
theorem xL_ins (f : Nat → Option Bool) (r : Option Nat) : xL (xins f r) := xL_read (by
  intro Γ h n o h' dc ds H
  unfold xins at H ⊢
  split at H
  · cases H; exact ⟨rfl, fun g => rfl⟩
  · split at H
    · rename_i a c fs ho
      split at H
      · rename_i hf
        cases H
        exact ⟨rfl, fun g => by simp only [xobj_xu ho, hf]⟩
      · rename_i hf
        cases H
        exact ⟨rfl, fun g => by simp only [xobj_xu ho, hf]⟩
      · cases H
    · cases H)
theorem xL_csA (t : Nat) (r : Option Nat) : xL (xcsA t r) := xL_read (by
  intro Γ h n o h' dc ds H
  unfold xcsA at H ⊢
  split at H
  · cases H; exact ⟨rfl, fun g => rfl⟩
  · rename_i a
    split at H
    · rename_i u x hc
      split at H
      · rename_i hu
        cases H
        exact ⟨rfl, fun g => by simp only [xu_some hc]; rw [if_pos hu]⟩
      · cases H
    · cases H)
theorem xL_cpI (t : Nat) (ty : FieldType) (sr : Option Nat) (sp : Int32) (dr : Option Nat) (dp k : Int32) : xL (xcpI t ty sr sp dr dp k) := xL_write (by
  intro Γ h n o h' dc ds H
  unfold xcpI at H ⊢
  split at H
  · rename_i a u n0 f hx
    split at H
    · cases H
    · rename_i d
      split at H
      · rename_i u1 n1 g hc
        split at H
        · rename_i hg
          cases H
          exact ⟨d, _, some_ne hc, rfl, fun g => by rw [xarr_xu hx]; simp only [xu_some hc]; rw [if_pos hg]⟩
        · cases H
      · cases H
  · cases H)
theorem xL_cpR (t : Nat) (ok : Nat → Bool) (sr : Option Nat) (sp : Int32) (dr : Option Nat) (dp k : Int32) : xL (xcpR t ok sr sp dr dp k) := xL_write (by
  intro Γ h n o h' dc ds H
  unfold xcpR at H ⊢
  split at H
  · rename_i a u n0 f hx
    split at H
    · cases H
    · rename_i d
      split at H
      · rename_i u1 n1 g hc
        split at H
        · rename_i hg
          cases H
          refine ⟨d, _, some_ne hc, rfl, fun g => ?_⟩
          rw [xarr_xu hx]
          simp only [xu_some hc]
          rw [if_pos]
          refine ⟨hg.1, hg.2.1, hg.2.2.1, hg.2.2.2.1, hg.2.2.2.2.1, hg.2.2.2.2.2.1, hg.2.2.2.2.2.2.1, ?_⟩
          have := hg.2.2.2.2.2.2.2
          rw [List.all_eq_true] at this ⊢
          exact fun x hx => xokR_xu (this x hx)
        · cases H
      · cases H
  · cases H)
theorem xL_clB (r : Option Nat) : xL (xclB r) := xL_make (by
  intro Γ h n o h' dc ds H
  unfold xclB at H ⊢
  split at H
  · cases H
  · rename_i a
    split at H
    · rename_i N f hc
      split at H
      · rename_i hg
        cases H
        exact ⟨_, rfl, rfl, fun g => by simp only [xu_some hc]; rw [if_pos hg]⟩
      · cases H
    · cases H)
theorem xL_gcO (r : Option Nat) : xL (xgcO r) := xL_read (by
  intro Γ h n o h' dc ds H
  unfold xgcO at H ⊢
  split at H
  · cases H
  · rename_i a
    split at H
    · rename_i x hc
      cases H
      exact ⟨rfl, fun g => by simp only [xu_some hc]⟩
    · cases H)
theorem xL_gcause (a : Nat) : xL (xgcause a) := xL_read (by
  intro Γ h n o h' dc ds H
  unfold xgcause at H ⊢
  split at H
  · rename_i fs hc
    split at H
    · rename_i hv
      cases H
      exact ⟨rfl, fun g => by simp only [xu_some hc, hv]⟩
    · rename_i b hv
      cases H
      exact ⟨rfl, fun g => by simp only [xu_some hc, hv]⟩
    · cases H
  · cases H)
theorem xL_dv {b : Int32} {k : xM α} (hk : xL k) : xL (xdv b k) := xL_ite xL_stuck hk
theorem xL_dvJ {b : Int64} {k : xM α} (hk : xL k) : xL (xdvJ b k) := xL_ite xL_stuck hk
theorem xL_nan {v : UInt64} {k : xM α} (hk : xL k) : xL (xnan v k) := xL_ite hk xL_stuck
theorem xL_retN (ty : FieldType) (v : Int32) : xL (xretN ty v) := xL_ite (xL_pure v) xL_stuck
end XL
