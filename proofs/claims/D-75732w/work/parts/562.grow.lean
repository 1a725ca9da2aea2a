/-! part 562: an ArrayDeque grows -/
section DG
variable {Γ : Nat → Option Nat} {h : xH} {n d e hd tl cap : Nat} {f : Nat → Option Nat} {Q : List Nat} {v : Nat}
theorem k_gr145 (hok : ∀ hd f, xokR (kDv h d e hd tl 36 f) xokObj none = true) : ∀ (k i fu : Nat) (f : Nat → Option Nat), i + k ≤ 36 → k < fu → fJ27_grow_p145 fu (some e) (Int32.ofNat i) (Int32.ofNat (i + k)) Γ (kDv h d e hd tl 36 f) n = some (.inl (), kDv h d e hd tl 36 (fun j => if i ≤ j ∧ j < i + k then none else f j), 0, 0) := by
  have i1 : (1 : Int32) = Int32.ofNat 1 := rfl
  intro k
  induction k with
  | zero =>
    intro i fu f hi hf
    obtain ⟨fu, rfl⟩ : ∃ g, fu = g + 1 := ⟨fu - 1, by omega⟩
    rw [fJ27_grow_p145, if_pos (by rw [i_le (by omega) (by omega)]; omega), show (fun j => if i ≤ j ∧ j < i + 0 then none else f j) = f by funext j; rw [if_neg (by omega)]]
    rfl
  | succ k ih =>
    intro i fu f hi hf
    obtain ⟨fu, rfl⟩ : ∃ g, fu = g + 1 := ⟨fu - 1, by omega⟩
    have st := dv_st (Γ := Γ) (n := n) (h := h) (d := d) (e := e) (hd := hd) (tl := tl) (cap := 36) (f := f) (x := none) (i := i) (by omega) (by omega) (hok _ _)
    have r := ih (i + 1) fu (va_up f i none) (by omega) (by omega)
    rw [show i + 1 + k = i + (k + 1) by omega] at r
    rw [fJ27_grow_p145, if_neg (by rw [i_le (by omega) (by omega)]; omega), x_b1 st]
    dsimp only [xlet]
    rw [i1, i_add, r]
    congr 4
    funext j
    rw [va_ap]
    by_cases c1 : j = i
    · rw [if_neg (by omega), if_pos c1, if_pos (by omega)]
    · rw [if_neg c1]
      by_cases c2 : i ≤ j ∧ j < i + (k + 1)
      · rw [if_pos (by omega), if_pos c2]
      · rw [if_neg (by omega), if_neg c2]
/-- where things lie after growing -/
theorem pDq_grow (hh : hd < 17) (hl : Q.length = 17) : (fun j => if hd ≤ j ∧ j < hd + 19 then none else va_cpy (pDq Q hd 17) (pDq Q hd 17) hd (hd + 19) (17 - hd) j) = pDq Q (hd + 19) 36 := by
  funext j
  unfold va_cpy pDq
  by_cases c1 : hd ≤ j ∧ j < hd + 19
  · rw [if_pos c1, if_pos (by omega), List.getElem?_eq_none (by omega)]
  · rw [if_neg c1]
    by_cases c2 : hd + 19 ≤ j ∧ j < hd + 19 + (17 - hd)
    · rw [if_pos c2, if_pos (by omega), if_pos (by omega)]
      congr 1
      omega
    · rw [if_neg c2]
      by_cases c3 : j < 17
      · rw [if_pos c3, if_pos (by omega)]
        congr 1
        omega
      · rw [if_neg c3, if_neg (by omega)]
theorem k_growF (hf : ∀ j, j < 17 → f j = pDq Q hd 17 j) (ne : d ≠ e) (nd : d ≠ n) (nen : e ≠ n) (hh : hd < 17) (hl : Q.length = 17) (hQ : ∀ x, x ∈ Q → ∃ c, yO h c x ∧ xokObj c = true ∧ x ≠ d ∧ x ≠ e ∧ x ≠ n) : xsel (some d) [(23, fun z => fJ27_grow z (1 : Int32))] Γ (kDv h d e hd hd 17 f) n = some (.inl (), kDv (xupd h e (true, .inl (5, 17, .inr (.inr (.inr (.inr f)))))) d n (hd + 19) hd 36 (pDq Q (hd + 19) 36), 1, 36) := by
  let h1 : xH := xupd h e (true, .inl (5, 17, .inr (.inr (.inr (.inr f)))))
  let H0 : xH := kDv h d e hd hd 17 f
  let H1 : xH := xupd H0 n (true, .inl (5, 36, .inr (.inr (.inr (.inr (fun _ => none))))))
  let H2 : xH := xupd H0 n (true, .inl (5, 36, .inr (.inr (.inr (.inr (pDq Q hd 17))))))
  have ee : H0 e = some (true, .inl (5, 17, .inr (.inr (.inr (.inr f))))) := dv_e
  have gc : xgcO (some e) Γ H0 n = some (.inl (Γ 90), H0, 0, 0) := by
    unfold xgcO
    simp only [ee]
  have okx : ∀ {g : xH} {x : Option Nat} {j : Nat}, pDq Q hd 17 j = x → (∀ a, a ≠ d → a ≠ e → a ≠ n → g a = h a) → xokR g xokObj x = true := by
    intro g x j hx hg
    cases x with
    | none => rfl
    | some x =>
      obtain ⟨c, c1, c2, c3, c4, c5⟩ := pDq_ok hQ hx
      exact k_okR ((yO_c (hg x c3 c4 c5)).mpr c1) c2
  have c0 : (0 : Int32).toNatClampNeg = 0 := by decide
  have c17 : (Int32.ofNat 17).toNatClampNeg = 17 := by decide
  have nH : xnewA 5 (fun N => (N, .inr (.inr (.inr (.inr (fun _ => none)))))) (Int32.ofNat 36) Γ H0 n = some (.inl n, H1, 1, 36) := by
    unfold xnewA
    rw [if_pos (by decide)]
    rfl
  have e1 : H1 e = some (true, .inl (5, 17, .inr (.inr (.inr (.inr f))))) := (up_ne nen).trans ee
  have n1 : H1 n = some (true, .inl (5, 36, .inr (.inr (.inr (.inr (fun _ => none)))))) := up_self
  have hg1 : ∀ a, a ≠ d → a ≠ e → a ≠ n → H1 a = h a := fun a a1 a2 a3 => (up_ne a3).trans (dv_o a1 a2)
  have ln : xlen (some e) Γ H1 (n + 1) = some (.inl (Int32.ofNat 17), H1, 0, 0) := by
    unfold xlen xarr
    simp only [e1]
  have cpy : xcpR 5 xokObj (some e) (0 : Int32) (some n) (0 : Int32) (Int32.ofNat 17) Γ H1 (n + 1) = some (.inl (), H2, 0, 0) := by
    unfold xcpR xarr
    simp only [e1, n1, c0, c17]
    rw [if_pos ⟨trivial, trivial, by decide, by decide, by decide, by omega, by omega, by
      rw [List.all_eq_true]
      intro i hi
      have hi' := List.mem_range.mp hi
      rw [hf _ (by omega)]
      exact okx rfl hg1⟩]
    show some (Sum.inl (), xupd (xupd H0 n _) n _, 0, 0) = _
    rw [up_up]
    have : va_cpy f (fun _ => none) 0 0 17 = pDq Q hd 17 := by
      funext j
      unfold va_cpy
      by_cases c : j < 17
      · rw [if_pos (by omega), Nat.zero_add, Nat.sub_zero]
        exact hf j c
      · rw [if_neg (by omega)]
        unfold pDq
        rw [if_neg c]
    rw [this]
  have mn : fJ12_min (Int32.ofNat 17) (Int32.ofNat 36) Γ H1 (n + 1) = some (.inl (Int32.ofNat 17), H1, 0, 0) := by
    rw [i_im]
    rfl
  have co : fJ13_copyOf_2 (some e) (Int32.ofNat 36) Γ H0 n = some (.inl (some n), H2, 1, 36) := by
    unfold fJ13_copyOf_2
    have c3 : fJ13_copyOf_3 (some e) (Int32.ofNat 36) (Γ 90) Γ H0 n = some (.inl (some n), H2, 1, 36) := by
      unfold fJ13_copyOf_3
      rw [x_b1 (show xcon 90 Γ H0 n = some (.inl (Γ 90), H0, 0, 0) from rfl), if_pos rfl, x_bc nH, x_b1 ln, x_b1 mn, x_b1 cpy]
      rfl
    rw [x_b1 gc, x_bc c3]
    rfl
  have H2d : H2 d = some (true, .inr (23, [.ref e, .int (Int32.ofNat hd), .int (Int32.ofNat hd)])) := (up_ne nd).trans (dv_d ne)
  have p0 : xput 23 0 (some d) (va_rf (some n)) Γ H2 (n + 1) = some (.inl (), kDv h1 d n hd hd 36 (pDq Q hd 17), 0, 0) := by
    unfold xput
    simp only [H2d]
    rw [if_pos ⟨trivial, by simp⟩]
    congr 3
    funext a
    show xupd (xupd (xupd (xupd h d _) e _) n _) d _ a = xupd (xupd (xupd h e _) d _) n _ a
    unfold xupd
    by_cases a1 : a = d
    · subst a1
      rw [if_pos rfl, if_neg nd, if_pos rfl]
      rfl
    · rw [if_neg a1]
      by_cases a2 : a = n
      · rw [if_pos a2, if_pos a2]
      · rw [if_neg a2, if_neg a2, if_neg a1]
        by_cases a3 : a = e
        · rw [if_pos a3, if_neg a1]
        · rw [if_neg a3, if_neg a1]
  have hok : ∀ hd' f, xokR (kDv h1 d n hd' hd 36 f) xokObj none = true := fun _ _ => rfl
  have f0 : pDq Q hd 17 hd = some (Q[0]'(by omega)) := by
    have := pDq_i (Q := Q) (hd := hd) (cap := 17) (i := 0) (Or.inl rfl) hh (by omega)
    rw [Nat.add_zero, Nat.mod_eq_of_lt hh, List.getElem?_eq_getElem (by omega)] at this
    exact this
  have ld := dv_ld (Γ := Γ) (n := n + 1) (h := h1) (d := d) (e := n) (hd := hd) (tl := hd) (cap := 36) (f := pDq Q hd 17) (i := hd) (by omega) (by omega)
  rw [f0] at ld
  have hg2 : ∀ (hd' tl' : Nat) (f : Nat → Option Nat) a, a ≠ d → a ≠ e → a ≠ n → kDv h1 d n hd' tl' 36 f a = h a := fun _ _ _ a a1 a2 a3 => (dv_o a1 a3).trans (up_ne a2)
  have cp2 : xcpR 5 xokObj (some n) (Int32.ofNat hd) (some n) (Int32.ofNat (hd + 19)) (Int32.ofNat (17 - hd)) Γ (kDv h1 d n hd hd 36 (pDq Q hd 17)) (n + 1) = some (.inl (), kDv h1 d n hd hd 36 (va_cpy (pDq Q hd 17) (pDq Q hd 17) hd (hd + 19) (17 - hd)), 0, 0) := by
    unfold xcpR xarr
    simp only [dv_e]
    rw [i_nat (by omega), i_nat (by omega), i_nat (by omega), if_pos ⟨trivial, trivial, i_nonneg (by omega), i_nonneg (by omega), i_nonneg (by omega), by omega, by omega, by
      rw [List.all_eq_true]
      intro i _
      exact okx rfl (hg2 _ _ _)⟩]
    unfold kDv
    rw [up_up]
  have r145 := k_gr145 (Γ := Γ) (n := n + 1) (h := h1) (d := d) (e := n) (hd := hd + 19) (tl := hd) hok 19 hd xFU (va_cpy (pDq Q hd 17) (pDq Q hd 17) hd (hd + 19) (17 - hd)) (by omega) (by unfold xFU; omega)
  rw [pDq_grow hh hl] at r145
  have g96 : fJ27_grow_p96 d (Int32.ofNat 17) (Int32.ofNat 36) (some n) Γ (kDv h1 d n hd hd 36 (pDq Q hd 17)) (n + 1) = some (.inl (), kDv h1 d n (hd + 19) hd 36 (pDq Q (hd + 19) 36), 0, 0) := by
    unfold fJ27_grow_p96
    dsimp only [xlet]
    rw [x_b1 (dv_g1 nd), x_b1 (dv_g1 nd), x_b1 (dv_g1 nd), show Int32.ofNat 36 - Int32.ofNat 17 = Int32.ofNat 19 from by decide, i_add, i_sub (show hd ≤ 17 by omega), x_b1 cp2, x_b1 (dv_g1 nd), x_b1 (dv_g1 nd), i_add, x_b1 (dv_p1 nd)]
    exact r145
  have g49 : fJ27_grow_p49 d (Int32.ofNat 17) (Int32.ofNat 36) Γ H0 n = some (.inl (), kDv h1 d n (hd + 19) hd 36 (pDq Q (hd + 19) 36), 1, 36) := by
    unfold fJ27_grow_p49
    rw [x_b1 (dv_g0 ne), x_bc co, x_b1 p0, x_b1 (dv_g2 nd), x_b1 (dv_g1 nd), if_neg (by rw [i_lt (by omega) (by omega)]; omega), x_b1 (dv_g2 nd), x_b1 (dv_g1 nd), if_pos rfl, x_b1 (dv_g1 nd), x_b1 ld, if_neg (fun z => nomatch z), g96]
    rfl
  rw [dv_sel ne]
  unfold fJ27_grow
  rw [x_b1 (dv_g0 ne), x_b1 dv_len, if_neg (by decide)]
  unfold fJ27_grow_p21
  dsimp only [xlet]
  rw [if_neg (by decide), if_pos (by decide), show Int32.ofNat 17 + (Int32.ofNat 17 + (2 : Int32)) = Int32.ofNat 36 from by decide, g49]
theorem k_grow (ne : d ≠ e) (nd : d ≠ n) (nen : e ≠ n) (hh : hd < 17) (hl : Q.length = 17) (hQ : ∀ x, x ∈ Q → ∃ c, yO h c x ∧ xokObj c = true ∧ x ≠ d ∧ x ≠ e ∧ x ≠ n) : xsel (some d) [(23, fun z => fJ27_grow z (1 : Int32))] Γ (kDv h d e hd hd 17 (pDq Q hd 17)) n = some (.inl (), kDv (xupd h e (true, .inl (5, 17, .inr (.inr (.inr (.inr (pDq Q hd 17))))))) d n (hd + 19) hd 36 (pDq Q (hd + 19) 36), 1, 36) := k_growF (fun _ _ => rfl) ne nd nen hh hl hQ
/-- an item is added at the end; the row may grow -/
theorem k_addLast2 (ne : d ≠ e) (nd : d ≠ n) (nen : e ≠ n) (hh : hd < 17) (hl : Q.length = 16) (hQ : ∀ x, x ∈ Q ++ [v] → ∃ c, yO h c x ∧ xokObj c = true ∧ x ≠ d ∧ x ≠ e ∧ x ≠ n) : xsel (some d) [(23, fun z => fJ27_addLast z (some v))] Γ (kDv h d e hd ((hd + Q.length) % 17) 17 (pDq Q hd 17)) n = some (.inl (), kDv (xupd h e (true, .inl (5, 17, .inr (.inr (.inr (.inr (pDq (Q ++ [v]) hd 17))))))) d n (hd + 19) ((hd + 19 + (Q ++ [v]).length) % 36) 36 (pDq (Q ++ [v]) (hd + 19) 36), 1, 36) := by
  have hl2 : (Q ++ [v]).length = 17 := by rw [List.length_append, List.length_singleton, hl]
  have tl : (hd + Q.length) % 17 < 17 := Nat.mod_lt _ (by omega)
  have hv : ∀ tl f, xokR (kDv h d e hd tl 17 f) xokObj (some v) = true := fun tl f => by
    obtain ⟨c, c1, c2, c3, c4, c5⟩ := hQ v (by simp)
    exact k_okR ((yO_c (dv_o c3 c4)).mpr c1) c2
  have st := dv_st (Γ := Γ) (n := n) (h := h) (d := d) (e := e) (hd := hd) (tl := (hd + Q.length) % 17) (cap := 17) (f := pDq Q hd 17) (x := some v) tl (by omega) (hv _ _)
  rw [pDq_last (Or.inl rfl) hh (by omega)] at st
  have em : (if (hd + Q.length) % 17 + 1 < 17 then (hd + Q.length) % 17 + 1 else 0) = hd := by
    rw [hl]
    split <;> omega
  have g := k_grow (Γ := Γ) (n := n) ne nd nen hh hl2 hQ
  rw [dv_sel ne]
  unfold fJ27_addLast
  rw [if_neg (fun z => nomatch z), x_b1 (dv_g0 ne), x_b1 (dv_g2 ne), x_b1 st, x_b1 (dv_g1 ne), x_b1 (dv_g2 ne), x_b1 dv_len, x_b1 (dv_inc tl (by omega)), em, x_b1 (dv_p2 ne), if_pos rfl, x_bc g, hl2, show (hd + 19 + 17) % 36 = hd by omega]
  rfl
theorem k_addFirst2 (ne : d ≠ e) (nd : d ≠ n) (nen : e ≠ n) (hh : hd < 17) (hl : Q.length = 16) (hQ : ∀ x, x ∈ v :: Q → ∃ c, yO h c x ∧ xokObj c = true ∧ x ≠ d ∧ x ≠ e ∧ x ≠ n) : ∃ hd', hd' < 17 ∧ xsel (some d) [(23, fun z => fJ27_addFirst z (some v))] Γ (kDv h d e hd ((hd + Q.length) % 17) 17 (pDq Q hd 17)) n = some (.inl (), kDv (xupd h e (true, .inl (5, 17, .inr (.inr (.inr (.inr (pDq (v :: Q) hd' 17))))))) d n (hd' + 19) ((hd' + 19 + (v :: Q).length) % 36) 36 (pDq (v :: Q) (hd' + 19) 36), 1, 36) := by
  have hl2 : (v :: Q).length = 17 := by rw [List.length_cons, hl]
  have hx : (if hd = 0 then 17 - 1 else hd - 1) < 17 := by split <;> omega
  have hv : ∀ hd tl f, xokR (kDv h d e hd tl 17 f) xokObj (some v) = true := fun _ tl f => by
    obtain ⟨c, c1, c2, c3, c4, c5⟩ := hQ v (by simp)
    exact k_okR ((yO_c (dv_o c3 c4)).mpr c1) c2
  have st := dv_st (Γ := Γ) (n := n) (h := h) (d := d) (e := e) (hd := if hd = 0 then 17 - 1 else hd - 1) (tl := (hd + Q.length) % 17) (cap := 17) (f := pDq Q hd 17) (x := some v) hx (by omega) (hv _ _ _)
  rw [pDq_first (Or.inl rfl) hh (by omega)] at st
  have em : (hd + Q.length) % 17 = if hd = 0 then 17 - 1 else hd - 1 := by
    rw [hl]
    split <;> omega
  refine ⟨_, hx, ?_⟩
  have g := k_grow (Γ := Γ) (n := n) (h := h) (Q := v :: Q) ne nd nen hx hl2 hQ
  rw [dv_sel ne]
  unfold fJ27_addFirst
  rw [if_neg (fun z => nomatch z), x_b1 (dv_g0 ne), x_b1 (dv_g1 ne), x_b1 dv_len, x_b1 (dv_dec hh (by omega)), x_b1 (dv_p1 ne), x_b1 st, x_b1 (dv_g1 ne), x_b1 (dv_g2 ne), em, if_pos rfl, x_bc g, hl2]
  generalize (if hd = 0 then 17 - 1 else hd - 1) = x at *
  rw [show (x + 19 + 17) % 36 = x by omega]
  rfl
end DG
