/-! part 577: the history; an action is recorded, whole -/
/-- states 0 .. dep, the last one the present; the others in the list hi -/
def kHs (h : xH) (x hi dep : Nat) (Dh : Nat → Nat) (a : Nat → Nat → Nat) (E : Nat → Nat → Nat → Nat) (P FE : Nat → Nat) (Nn : Nat → Nat → Int32) (mx : Nat → Nat) (D T B M : Nat → Nat → Nat) : Prop :=
  yW h 0 x ∧ yr h 0 4 x = some (a dep 0) ∧ yr h 0 5 x = some hi ∧ dep ≤ 8 ∧ kLl h hi dep Dh (fun i => a i 0) ∧ (∀ i, i ≤ dep → kFs h (a i) (E i) P FE (Nn i) (mx i) (D i) (T i) (B i) (M i)) ∧ ∀ i, i ≤ dep → a i 3 ≠ hi ∧ ∀ j, j < nn (Nn i 3) → ∀ k, k < dep → D i j ≠ Dh k
def shD (dep : Nat) : Nat := if dep = 8 then 1 else 0
/-- the families when the present is recorded and z is the new present -/
def shF {α : Type} (dep : Nat) (f : Nat → α) (z : α) : Nat → α := fun i => if i < dep + 1 - shD dep then f (i + shD dep) else z
theorem shD_le {dep : Nat} (h : dep ≤ 8) : shD dep ≤ 1 ∧ dep + 1 - shD dep ≤ 8 ∧ shD dep ≤ dep ∧ (shD dep = 1 ↔ dep = 8) := by
  unfold shD
  split <;> omega
theorem shF_lt {α : Type} {dep i : Nat} {f : Nat → α} {z : α} (h : i < dep + 1 - shD dep) : shF dep f z i = f (i + shD dep) := if_pos h
theorem shF_eq {α : Type} {dep : Nat} {f : Nat → α} {z : α} : shF dep f z (dep + 1 - shD dep) = z := if_neg (by omega)
theorem kLl.congr {h : xH} {li c : Nat} {D T D' T' : Nat → Nat} (H : kLl h li c D T) (e1 : ∀ i, i < c → D' i = D i) (e2 : ∀ i, i < c → T' i = T i) : kLl h li c D' T' := by
  obtain ⟨h1, h2, h3, h4, h5, h6, h7⟩ := H
  refine ⟨h1, h2, ?_, ?_, h5, fun i hi => ?_, fun i j hi hj => ?_⟩
  · rw [h3]
    by_cases c0 : 0 < c
    · rw [if_pos c0, if_pos c0, e1 0 c0]
    · rw [if_neg c0, if_neg c0]
  · rw [h4]
    by_cases c0 : 0 < c
    · rw [if_pos c0, if_pos c0, e1 (c - 1) (by omega)]
    · rw [if_neg c0, if_neg c0]
  · obtain ⟨k1, k2, k3, k4⟩ := h6 i hi
    rw [e1 i hi, e2 i hi]
    refine ⟨k1, k2, ?_, ?_⟩
    · rw [k3]
      by_cases c0 : i + 1 < c
      · rw [if_pos c0, if_pos c0, e1 _ c0]
      · rw [if_neg c0, if_neg c0]
    · rw [k4]
      by_cases c0 : 0 < i
      · rw [if_pos c0, if_pos c0, e1 (i - 1) (by omega)]
      · rw [if_neg c0, if_neg c0]
  · rw [e1 i hi, e1 j hj]
    exact h7 i j hi hj
/-- the heap up to n -/
def hLo (n : Nat) (g : xH) : xH := fun q => if q ≤ n then g q else none
theorem hLo_sub {n : Nat} {g g' : xH} (e : ∀ q, q ≤ n → g' q = g q) : hsub (hLo n g) g' := fun q hq => by
  unfold hLo at hq ⊢
  by_cases c : q ≤ n
  · rw [if_pos c]; exact e q c
  · rw [if_neg c] at hq; exact absurd rfl hq
section RC2
variable {Γ : Nat → Option Nat} {h : xH} {n x hi dep : Nat} {Dh P FE mx : Nat → Nat} {a D T B M : Nat → Nat → Nat} {E : Nat → Nat → Nat → Nat} {Nn : Nat → Nat → Int32}
theorem k_record (H : kHs h x hi dep Dh a E P FE Nn mx D T B M) (hb : xbd n h) :
    ∃ g Dh' E' D' T' dc ds, xsel (some x) [(0, fun z => fX1_record z)] Γ h n = some (.inl (some (n + 1)), g, dc, ds) ∧ dc ≤ 61 ∧ ds ≤ 910 ∧ xbd (n + dc) g ∧ kHs g x hi (dep + 1 - shD dep) Dh' (shF dep a (fun k => n + 1 + k)) (shF dep E E') P FE (shF dep Nn (Nn dep)) (shF dep mx (mx dep)) (shF dep D D') (shF dep T T') (shF dep B (B dep)) (shF dep M (M dep)) ∧ kFr (nn (Nn dep 0)) (n + 6) (n + dc) E' ∧ (∀ j, j < nn (Nn dep 3) → n + 6 ≤ D' j) ∧ (∀ t k j, t < nn (Nn dep 0) → k < 7 → j < nn (Nn dep 3) → E' t k ≠ D' j) ∧ (∀ k, k ≠ 4 → yr g 0 k x = yr h 0 k x) ∧ (∀ k, yi g 0 k x = yi h 0 k x) ∧ (∀ q, h q ≠ none → q ≠ x → q ≠ hi → (∀ k, k < dep → q ≠ Dh k) → g q = h q) ∧ (∀ q, h q ≠ none → yhd g q = yhd h q) ∧ (∀ k, k < dep + 1 - shD dep → Dh' k ≤ n) ∧ (∀ i, i < dep + 1 - shD dep → kFs (hLo n g) (a (i + shD dep)) (E (i + shD dep)) P FE (Nn (i + shD dep)) (mx (i + shD dep)) (D (i + shD dep)) (T (i + shD dep)) (B (i + shD dep)) (M (i + shD dep))) := by
  have sd := shD_le H.2.2.2.1
  have X1 := H.1
  have oX := yO_of _ _ _ X1
  have L := H.2.2.2.2.1
  have oL := yO_of _ _ _ L.1
  -- the first one goes, if there are eight
  have st1 : ∃ h1, (∀ r : Option Nat → xM (Option Nat), True) ∧ fX1_record x Γ h n = fX1_record_p20 x Γ h1 n ∧ kLl h1 hi (dep - shD dep) (fun i => Dh (i + shD dep)) (fun i => a (i + shD dep) 0) ∧ (∀ q, yhd h1 q = yhd h q) ∧ ∀ q, q ≠ hi → (∀ k, k < dep → q ≠ Dh k) → h1 q = h q := by
    have g5 := e_gR (Γ := Γ) (n := n) oX kn0_5
    rw [H.2.2.1] at g5
    have sz : xsel (some hi) [(6, fun z => fJ19_size z)] Γ h n = some (.inl (Int32.ofNat dep), h, 0, 0) := by
      rw [e_sel oL]
      unfold fJ19_size
      rw [x_b1 (k_llSize L)]
      rfl
    have i8 : (8 : Int32) = Int32.ofNat 8 := rfl
    by_cases c : dep = 8
    · have e1 : shD dep = 1 := sd.2.2.2.mpr c
      have L' : kLl h hi (7 + 1) Dh (fun i => a i 0) := by rw [c] at L; exact L
      obtain ⟨g, a1, a2, a3, a4⟩ := k_llRemFirst (Γ := Γ) (n := n) L'
      refine ⟨g, fun _ => trivial, ?_, ?_, a3, fun q h1 h2 => a4 q h1 (fun i hi' => h2 i (by omega))⟩
      · unfold fX1_record
        rw [x_b1 g5, x_b1 sz, if_pos (by rw [c]; rfl), x_b1 g5, x_b1 a1]
      · rw [e1, c]
        exact a2
    · have e1 : shD dep = 0 := by have := sd.1; have := sd.2.2.2; omega
      refine ⟨h, fun _ => trivial, ?_, ?_, fun _ => rfl, fun _ _ _ => rfl⟩
      · unfold fX1_record
        have := H.2.2.2.1
        rw [x_b1 g5, x_b1 sz, if_neg (by rw [i8, i_eq (by omega) (by omega)]; exact c)]
      · rw [e1]
        exact L
  obtain ⟨h1, -, q1, q2, q3, q4⟩ := st1
  have xn : x ≠ hi := yO_ne oX oL (by omega)
  have xD : ∀ i, i < dep → x ≠ Dh i := fun i hi' => yO_ne oX (yO_of _ _ _ (L.2.2.2.2.2.1 i hi').1) (by omega)
  have ex : h1 x = h x := q4 x xn xD
  have k1 : hK h h1 := fun q hq hcl => by
    refine q4 q (fun z => ?_) (fun i hi' z => ?_)
    · exact (hcl 6 (by rw [z]; exact oL)).2.1 rfl
    · exact (hcl 25 (by rw [z]; exact yO_of _ _ _ (L.2.2.2.2.2.1 i hi').1)).2.2.1 rfl
  have b1 : xbd n h1 := xbd_hd hb q3
  have F1 : ∀ i, i ≤ dep → kFs h1 (a i) (E i) P FE (Nn i) (mx i) (D i) (T i) (B i) (M i) := by
    intro i hi'
    have F := H.2.2.2.2.2.1 i hi'
    have S := H.2.2.2.2.2.2 i hi'
    have lst := F.2.1.1
    refine F.k k1 (q4 _ S.1 (fun k hk => yO_ne (yO_of _ _ _ lst.1) (yO_of _ _ _ (L.2.2.2.2.2.1 k hk).1) (by omega))) (fun j hj => ?_)
    have yD := yO_of _ _ _ (lst.2.2.2.2.2.1 j hj).1
    exact q4 _ (yO_ne yD oL (by omega)) (fun k hk => S.2 j hj k hk)
  have Sd := H.2.2.2.2.2.2 dep (Nat.le_refl _)
  obtain ⟨g, E', D', T', dc, ds, r1, r2, r3, r4, r5, r6, r7, r8, r9, r10, r11, r12, r13, r14, r15⟩ := k_rec20 (Γ := Γ) (b := a dep) ((yW_c ex).mpr X1) ((yr_c ex).trans H.2.1) ((yr_c ex).trans H.2.2.1) q2 (by have := sd.2.1; omega) (F1 dep (Nat.le_refl _)) Sd.1 (fun j hj k hk => Sd.2 j hj (k + shD dep) (by omega)) b1
  have ne1 : ∀ q, h q ≠ none → h1 q ≠ none := fun q hq => hd_at (q3 q) hq
  have lc : dep - shD dep + 1 = dep + 1 - shD dep := by omega
  rw [lc] at r9
  have FL : ∀ i, i < dep + 1 - shD dep → kFs (hLo n g) (a (i + shD dep)) (E (i + shD dep)) P FE (Nn (i + shD dep)) (mx (i + shD dep)) (D (i + shD dep)) (T (i + shD dep)) (B (i + shD dep)) (M (i + shD dep)) := by
    intro i c
    have F := F1 (i + shD dep) (by omega)
    have S := H.2.2.2.2.2.2 (i + shD dep) (by omega)
    have lst := F.2.1.1
    have lo : ∀ q, h1 q ≠ none → hLo n g q = g q := fun q hq => by
      unfold hLo
      rw [if_pos (by have := xbd_lt b1 hq; omega)]
    have kk : hK h1 (hLo n g) := fun q hq hcl => by
      rw [lo q hq]
      exact r14 q hq (fun z => (hcl 0 (by rw [z]; exact (yO_c ex).mpr oX)).1 rfl) (fun z => (hcl 6 (by rw [z]; exact yO_of _ _ _ q2.1)).2.1 rfl) (fun k hk z => (hcl 25 (by rw [z]; exact yO_of _ _ _ (q2.2.2.2.2.2.1 k hk).1)).2.2.1 rfl)
    refine F.k kk ((lo _ (yO_at (yO_of _ _ _ lst.1))).trans (r14 _ (yO_at (yO_of _ _ _ lst.1)) (yO_ne (yO_of _ _ _ lst.1) ((yO_c ex).mpr oX) (by omega)) S.1 (fun k hk => yO_ne (yO_of _ _ _ lst.1) (yO_of _ _ _ (q2.2.2.2.2.2.1 k hk).1) (by omega)))) (fun j hj => ?_)
    have yD := yO_of _ _ _ (lst.2.2.2.2.2.1 j hj).1
    exact (lo _ (yO_at yD)).trans (r14 _ (yO_at yD) (yO_ne yD ((yO_c ex).mpr oX) (by omega)) (yO_ne yD (yO_of _ _ _ q2.1) (by omega)) (fun k hk => S.2 j hj (k + shD dep) (by omega)))
  refine ⟨g, va_up (fun i => Dh (i + shD dep)) (dep - shD dep) n, E', D', T', dc, ds, ?_, r2, r3, r4, ⟨r5, ?_, ?_, sd.2.1, ?_, fun i hi' => ?_, fun i hi' => ?_⟩, r11, r12, r13, ?_, ?_, ?_, ?_, ?_, FL⟩
  · rw [e_sel oX, q1, r1]
  · rw [r6, shF_eq]
  · rw [r7 5 (by omega), yr_c ex]
    exact H.2.2.1
  · refine r9.congr (fun i hi' => rfl) (fun i hi' => ?_)
    show shF dep a (fun k => n + 1 + k) i 0 = _
    rw [shF_lt hi', va_ap]
    by_cases c : i = dep - shD dep
    · rw [if_pos c, show i + shD dep = dep by omega]
    · rw [if_neg c]
  · by_cases c : i < dep + 1 - shD dep
    · rw [shF_lt c, shF_lt c, shF_lt c, shF_lt c, shF_lt c, shF_lt c, shF_lt c, shF_lt c]
      exact (FL i c).mono (hLo_sub (fun _ _ => rfl))
    · obtain rfl : i = dep + 1 - shD dep := by omega
      rw [shF_eq, shF_eq, shF_eq, shF_eq, shF_eq, shF_eq, shF_eq, shF_eq]
      exact r10
  · have hin : hi < n := xbd_lt hb (yO_at oL)
    have Dn : ∀ k, k < dep → Dh k < n := fun k hk => xbd_lt hb (yO_at (yO_of _ _ _ (L.2.2.2.2.2.1 k hk).1))
    by_cases c : i < dep + 1 - shD dep
    · rw [shF_lt c, shF_lt c, shF_lt c]
      have F := F1 (i + shD dep) (by omega)
      have S := H.2.2.2.2.2.2 (i + shD dep) (by omega)
      refine ⟨S.1, fun j hj k hk => ?_⟩
      rw [va_ap]
      split
      · have := xbd_lt b1 (yO_at (yO_of _ _ _ (F.2.1.1.2.2.2.2.2.1 j hj).1))
        omega
      · exact S.2 j hj _ (by omega)
    · obtain rfl : i = dep + 1 - shD dep := by omega
      rw [shF_eq, shF_eq, shF_eq]
      refine ⟨show n + 1 + 3 ≠ hi by omega, fun j hj k hk => ?_⟩
      have := r12 j hj
      rw [va_ap]
      split
      · omega
      · have := Dn (k + shD dep) (by omega)
        omega
  · intro k hk
    rw [r7 k hk, yr_c ex]
  · intro k
    rw [r8 k, yi_c ex]
  · intro q hq h2 h3 h4
    rw [r14 q (ne1 q hq) h2 h3 (fun k hk => h4 _ (by omega)), q4 q h3 h4]
  · intro q hq
    rw [r15 q (ne1 q hq), q3 q]
  · intro k hk
    rw [va_ap]
    split
    · exact Nat.le_refl _
    · have := xbd_lt hb (yO_at (yO_of _ _ _ (L.2.2.2.2.2.1 (k + shD dep) (by omega)).1))
      omega
end RC2
