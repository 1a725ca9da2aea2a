/-! part 583: a deque that was copied is changed -/
section DW
variable {Γ : Nat → Option Nat} {h : xH} {n d e hd tl cap : Nat} {f : Nat → Option Nat} {Q : List Nat} {v : Nat}
theorem kDc.dv (H : kDc h d e Q hd cap) : h = kDv h d e hd ((hd + Q.length) % cap) cap (ylr h 5 e) ∧ (∀ j, j < cap → ylr h 5 e j = pDq Q hd cap j) ∧ d ≠ e := by
  obtain ⟨a1, a2, a3, b1, b2, b3, b4, b5, b6, b7⟩ := H
  obtain ⟨fs, c1, k1⟩ := yW_cell a1
  obtain ⟨N', y, hc, hk, hl, hy⟩ := yarrB a3
  rw [b1] at hl
  subst hl
  have ne := yOA_ne (yO_of _ _ _ a1) (yA_of _ _ _ a3)
  have ey : y = .inr (.inr (.inr (.inr (ylr h 5 e)))) := by
    unfold ylr
    rw [hy]
    revert hk
    rcases y with f | f | f | f | f <;> simp [ykc, ytk, ycR]
  have l3 : fs.length = 3 := by have := congrArg List.length k1; rw [List.length_map] at this; exact this
  obtain ⟨x0, x1, x2, rfl⟩ : ∃ x0 x1 x2, fs = [x0, x1, x2] := by
    rcases fs with _ | ⟨x0, _ | ⟨x1, _ | ⟨x2, _ | ⟨x3, fs⟩⟩⟩⟩ <;> simp at l3
    exact ⟨x0, x1, x2, rfl⟩
  simp only [List.map_cons, List.map_nil, ykn, List.cons.injEq, and_true] at k1
  obtain ⟨q0, q1, q2⟩ := k1
  have e0 : yvR x0 = some e := by
    unfold yr yv at a2
    rw [c1] at a2
    exact a2
  have e1 : yvI x1 = Int32.ofNat hd := by
    unfold yi yv at b5
    rw [c1] at b5
    exact b5
  have e2 : yvI x2 = Int32.ofNat ((hd + Q.length) % yln h e) := by
    unfold yi yv at b6
    rw [c1] at b6
    rw [b1]
    exact b6
  rw [vR_of q0, vI_of q1, vI_of q2, e0, e1, e2] at c1
  rw [ey] at hc
  refine ⟨?_, fun j hj => ?_, ne⟩
  · unfold kDv
    rw [b1] at c1
    rw [up_id (show h d = some (true, .inr (23, [.ref e, .int (Int32.ofNat hd), .int (Int32.ofNat ((hd + Q.length) % cap))])) from c1), up_id hc]
  · have := b7 ((j + cap - hd) % cap) (Nat.mod_lt _ (by omega))
    unfold pDq
    rw [if_pos hj, ← this]
    congr 1
    rcases b2 with rfl | rfl <;> omega
theorem dv_c {g : Nat → Option Nat} (ne : d ≠ e) (hc : cap = 17 ∨ cap = 36) (hh : hd < cap) (hl : Q.length < cap) (hf : ∀ j, j < cap → f j = pDq Q hd cap j) : kDc (kDv h d e hd ((hd + Q.length) % cap) cap f) d e Q hd cap := by
  have eD := dv_d (h := h) (hd := hd) (tl := (hd + Q.length) % cap) (cap := cap) (f := f) ne
  have eE := dv_e (h := h) (d := d) (e := e) (hd := hd) (tl := (hd + Q.length) % cap) (cap := cap) (f := f)
  refine ⟨?_, ?_, ⟨cap, ?_⟩, ?_, hc, hh, hl, ?_, ?_, fun i hi => ?_⟩
  · unfold yW yhd; rw [eD]; rfl
  · unfold yr yv; rw [eD]; rfl
  · unfold yhd; rw [eE]; rfl
  · unfold yln yhd; rw [eE]; rfl
  · unfold yi yv; rw [eD]; rfl
  · unfold yi yv; rw [eD]; rfl
  · unfold ylr yc
    rw [eE]
    show f ((hd + i) % cap) = _
    rw [hf _ (Nat.mod_lt _ (by omega))]
    exact pDq_i hc hh hi
theorem ag_first (hc : cap = 17 ∨ cap = 36) (hh : hd < cap) (hl : Q.length < cap) (hf : ∀ j, j < cap → f j = pDq Q hd cap j) : ∀ j, j < cap → va_up f (if hd = 0 then cap - 1 else hd - 1) (some v) j = pDq (v :: Q) (if hd = 0 then cap - 1 else hd - 1) cap j := by
  intro j hj
  rw [← pDq_first hc hh hl, va_ap, va_ap]
  generalize (if hd = 0 then cap - 1 else hd - 1) = x
  by_cases c : j = x
  · rw [if_pos c, if_pos c]
  · rw [if_neg c, if_neg c]
    exact hf j hj
theorem ag_drop (hc : cap = 17 ∨ cap = 36) (hh : hd < cap) (hl : (Q ++ [v]).length < cap) (hf : ∀ j, j < cap → f j = pDq (Q ++ [v]) hd cap j) : ∀ j, j < cap → va_up f ((hd + Q.length) % cap) none j = pDq Q hd cap j := by
  intro j hj
  rw [← pDq_drop hc hh hl, va_ap, va_ap]
  split
  · rfl
  · exact hf j hj
theorem k_first1 (ne : d ≠ e) (hc : cap = 17 ∨ cap = 36) (hh : hd < cap) (hl : Q.length + 1 < cap) (hf : ∀ j, j < cap → f j = pDq Q hd cap j) (hv : ∀ hd tl f, xokR (kDv h d e hd tl cap f) xokObj (some v) = true) : ∃ hd' f', hd' < cap ∧ xsel (some d) [(23, fun z => fJ27_addFirst z (some v))] Γ (kDv h d e hd ((hd + Q.length) % cap) cap f) n = some (.inl (), kDv h d e hd' ((hd' + (v :: Q).length) % cap) cap f', 0, 0) ∧ ∀ j, j < cap → f' j = pDq (v :: Q) hd' cap j := by
  have c100 : cap ≤ 100 := by omega
  have hx : (if hd = 0 then cap - 1 else hd - 1) < cap := by split <;> omega
  have st := dv_st (Γ := Γ) (n := n) (h := h) (d := d) (e := e) (hd := if hd = 0 then cap - 1 else hd - 1) (tl := (hd + Q.length) % cap) (f := f) (x := some v) hx c100 (hv _ _ _)
  have em : (hd + Q.length) % cap = ((if hd = 0 then cap - 1 else hd - 1) + (v :: Q).length) % cap := by
    rw [List.length_cons]
    split <;> rcases hc with rfl | rfl <;> omega
  refine ⟨_, _, hx, ?_, ag_first hc hh (by omega) hf⟩
  rw [dv_sel ne]
  unfold fJ27_addFirst
  rw [if_neg (fun z => nomatch z), x_b1 (dv_g0 ne), x_b1 (dv_g1 ne), x_b1 dv_len, x_b1 (dv_dec hh c100), x_b1 (dv_p1 ne), x_b1 st, x_b1 (dv_g1 ne), x_b1 (dv_g2 ne), em, if_neg (by
    have : ((if hd = 0 then cap - 1 else hd - 1) + (v :: Q).length) % cap < cap := Nat.mod_lt _ (by omega)
    rw [i_eq (by omega) (by omega), List.length_cons]
    generalize (if hd = 0 then cap - 1 else hd - 1) = x at *
    rcases hc with rfl | rfl <;> omega)]
  rfl
theorem k_drop1 (ne : d ≠ e) (hc : cap = 17 ∨ cap = 36) (hh : hd < cap) (hl : (Q ++ [v]).length < cap) (hf : ∀ j, j < cap → f j = pDq (Q ++ [v]) hd cap j) : ∃ f', xsel (some d) [(23, fun z => fJ27_removeLast z)] Γ (kDv h d e hd ((hd + (Q ++ [v]).length) % cap) cap f) n = some (.inl (some v), kDv h d e hd ((hd + Q.length) % cap) cap f', 0, 0) ∧ ∀ j, j < cap → f' j = pDq Q hd cap j := by
  have c100 : cap ≤ 100 := by omega
  have hl' := hl
  rw [List.length_append, List.length_singleton] at hl'
  have tl : (hd + (Q ++ [v]).length) % cap < cap := Nat.mod_lt _ (by omega)
  have tl2 : (hd + Q.length) % cap < cap := Nat.mod_lt _ (by omega)
  have em : (if (hd + (Q ++ [v]).length) % cap = 0 then cap - 1 else (hd + (Q ++ [v]).length) % cap - 1) = (hd + Q.length) % cap := by
    rw [List.length_append, List.length_singleton]
    split <;> rcases hc with rfl | rfl <;> omega
  have ld : xldR (some e) (Int32.ofNat ((hd + Q.length) % cap)) Γ (kDv h d e hd ((hd + (Q ++ [v]).length) % cap) cap f) n = some (.inl (some v), kDv h d e hd ((hd + (Q ++ [v]).length) % cap) cap f, 0, 0) := by
    rw [dv_ld tl2 c100, hf _ tl2, pDq_i hc hh (by omega), List.getElem?_append_right (Nat.le_refl _), Nat.sub_self]
    rfl
  have st := dv_st (Γ := Γ) (n := n) (h := h) (d := d) (e := e) (hd := hd) (tl := (hd + Q.length) % cap) (f := f) (x := none) tl2 c100 rfl
  refine ⟨_, ?_, ag_drop hc hh hl hf⟩
  have e1 : xsel (some d) [(23, fun z => fJ27_pollLast z)] Γ (kDv h d e hd ((hd + (Q ++ [v]).length) % cap) cap f) n = some (.inl (some v), kDv h d e hd ((hd + Q.length) % cap) cap (va_up f ((hd + Q.length) % cap) none), 0, 0) := by
    rw [dv_sel ne]
    unfold fJ27_pollLast
    have e2 : fJ27_elementAt (some e) (Int32.ofNat ((hd + Q.length) % cap)) Γ (kDv h d e hd ((hd + (Q ++ [v]).length) % cap) cap f) n = some (.inl (some v), kDv h d e hd ((hd + (Q ++ [v]).length) % cap) cap f, 0, 0) := by
      unfold fJ27_elementAt
      rw [x_b1 ld]
      rfl
    rw [x_b1 (dv_g0 ne), x_b1 (dv_g2 ne), x_b1 dv_len, x_b1 (dv_dec tl c100), em, x_b1 e2, if_neg (fun z => nomatch z), x_b1 (dv_p2 ne), x_b1 st]
    rfl
  rw [dv_sel ne]
  unfold fJ27_removeLast
  rw [x_b1 e1, if_neg (fun z => nomatch z)]
  rfl
theorem k_first2 (ne : d ≠ e) (nd : d ≠ n) (nen : e ≠ n) (hh : hd < 17) (hl : Q.length = 16) (hf : ∀ j, j < 17 → f j = pDq Q hd 17 j) (hQ : ∀ x, x ∈ v :: Q → ∃ c, yO h c x ∧ xokObj c = true ∧ x ≠ d ∧ x ≠ e ∧ x ≠ n) : ∃ hd' f', hd' < 36 ∧ xsel (some d) [(23, fun z => fJ27_addFirst z (some v))] Γ (kDv h d e hd ((hd + Q.length) % 17) 17 f) n = some (.inl (), kDv (xupd h e (true, .inl (5, 17, .inr (.inr (.inr (.inr f')))))) d n hd' ((hd' + (v :: Q).length) % 36) 36 (pDq (v :: Q) hd' 36), 1, 36) := by
  have hl2 : (v :: Q).length = 17 := by rw [List.length_cons, hl]
  have hx : (if hd = 0 then 17 - 1 else hd - 1) < 17 := by split <;> omega
  have hv : ∀ hd tl f, xokR (kDv h d e hd tl 17 f) xokObj (some v) = true := fun _ tl f => by
    obtain ⟨c, c1, c2, c3, c4, c5⟩ := hQ v (by simp)
    exact k_okR ((yO_c (dv_o c3 c4)).mpr c1) c2
  have st := dv_st (Γ := Γ) (n := n) (h := h) (d := d) (e := e) (hd := if hd = 0 then 17 - 1 else hd - 1) (tl := (hd + Q.length) % 17) (cap := 17) (f := f) (x := some v) hx (by omega) (hv _ _ _)
  have hf' := ag_first (v := v) (Or.inl rfl) hh (by omega) hf
  have em : (hd + Q.length) % 17 = if hd = 0 then 17 - 1 else hd - 1 := by
    rw [hl]
    split <;> omega
  have g := k_growF (Γ := Γ) (n := n) (h := h) (Q := v :: Q) hf' ne nd nen hx hl2 hQ
  refine ⟨(if hd = 0 then 17 - 1 else hd - 1) + 19, va_up f (if hd = 0 then 17 - 1 else hd - 1) (some v), by omega, ?_⟩
  rw [dv_sel ne]
  unfold fJ27_addFirst
  rw [if_neg (fun z => nomatch z), x_b1 (dv_g0 ne), x_b1 (dv_g1 ne), x_b1 dv_len, x_b1 (dv_dec hh (by omega)), x_b1 (dv_p1 ne), x_b1 st, x_b1 (dv_g1 ne), x_b1 (dv_g2 ne), em, if_pos rfl, x_bc g, hl2]
  generalize (if hd = 0 then 17 - 1 else hd - 1) = x at *
  rw [show (x + 19 + 17) % 36 = x by omega]
  rfl
end DW
