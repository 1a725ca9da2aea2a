/-! part 561: an ArrayDeque that is changed -/
def pDq (Q : List Nat) (hd cap : Nat) : Nat → Option Nat := fun j => if j < cap then Q[(j + cap - hd) % cap]? else none
def kDv (h : xH) (d e hd tl cap : Nat) (f : Nat → Option Nat) : xH := xupd (xupd h d (true, .inr (23, [.ref e, .int (Int32.ofNat hd), .int (Int32.ofNat tl)]))) e (true, .inl (5, cap, .inr (.inr (.inr (.inr f)))))
section DV
variable {Γ : Nat → Option Nat} {h : xH} {n d e hd tl cap : Nat} {f : Nat → Option Nat} {Q : List Nat} {v : Nat}
theorem dv_d (ne : d ≠ e) : kDv h d e hd tl cap f d = some (true, .inr (23, [.ref e, .int (Int32.ofNat hd), .int (Int32.ofNat tl)])) := by unfold kDv; rw [up_ne ne, up_self]
theorem dv_e : kDv h d e hd tl cap f e = some (true, .inl (5, cap, .inr (.inr (.inr (.inr f))))) := by unfold kDv; rw [up_self]
theorem dv_o {a : Nat} (h1 : a ≠ d) (h2 : a ≠ e) : kDv h d e hd tl cap f a = h a := by unfold kDv; rw [up_ne h2, up_ne h1]
theorem dv_obj (ne : d ≠ e) : xobj (kDv h d e hd tl cap f) (some d) = some (d, 23, [.ref e, .int (Int32.ofNat hd), .int (Int32.ofNat tl)]) := by unfold xobj; simp only [dv_d ne]
theorem dv_sel (ne : d ≠ e) {α : Type} {g : Nat → xM α} : xsel (some d) [(23, g)] Γ (kDv h d e hd tl cap f) n = g d Γ (kDv h d e hd tl cap f) n := by
  unfold xsel
  rw [dv_obj ne]
  rfl
theorem dv_g0 (ne : d ≠ e) : xgR 23 0 (some d) Γ (kDv h d e hd tl cap f) n = some (.inl (some e), kDv h d e hd tl cap f, 0, 0) := by unfold xgR xget; rw [dv_obj ne]; rfl
theorem dv_g1 (ne : d ≠ e) : xgI 23 1 (some d) Γ (kDv h d e hd tl cap f) n = some (.inl (Int32.ofNat hd), kDv h d e hd tl cap f, 0, 0) := by unfold xgI xget; rw [dv_obj ne]; rfl
theorem dv_g2 (ne : d ≠ e) : xgI 23 2 (some d) Γ (kDv h d e hd tl cap f) n = some (.inl (Int32.ofNat tl), kDv h d e hd tl cap f, 0, 0) := by unfold xgI xget; rw [dv_obj ne]; rfl
theorem dv_p1 (ne : d ≠ e) {x : Nat} : xput 23 1 (some d) (.int (Int32.ofNat x)) Γ (kDv h d e hd tl cap f) n = some (.inl (), kDv h d e x tl cap f, 0, 0) := by
  unfold xput
  simp only [dv_d ne]
  rw [if_pos ⟨trivial, by simp⟩]
  unfold kDv
  rw [up_comm ne.symm, up_up]
  rfl
theorem dv_p2 (ne : d ≠ e) {x : Nat} : xput 23 2 (some d) (.int (Int32.ofNat x)) Γ (kDv h d e hd tl cap f) n = some (.inl (), kDv h d e hd x cap f, 0, 0) := by
  unfold xput
  simp only [dv_d ne]
  rw [if_pos ⟨trivial, by simp⟩]
  unfold kDv
  rw [up_comm ne.symm, up_up]
  rfl
theorem dv_len : xlen (some e) Γ (kDv h d e hd tl cap f) n = some (.inl (Int32.ofNat cap), kDv h d e hd tl cap f, 0, 0) := by
  unfold xlen xarr
  simp only [dv_e]
theorem dv_ld {i : Nat} (hi : i < cap) (hc : cap ≤ 100) : xldR (some e) (Int32.ofNat i) Γ (kDv h d e hd tl cap f) n = some (.inl (f i), kDv h d e hd tl cap f, 0, 0) := by
  have h1 : i < 2147483648 := by omega
  unfold xldR xarr
  simp only [dv_e]
  rw [if_pos ⟨by rw [i_nat h1]; rintro (q | q); exact i_nonneg h1 q; omega, by omega⟩, i_nat h1]
theorem dv_st {i : Nat} {x : Option Nat} (hi : i < cap) (hc : cap ≤ 100) (hv : xokR (kDv h d e hd tl cap f) xokObj x = true) : xstR 5 xokObj (some e) (Int32.ofNat i) x Γ (kDv h d e hd tl cap f) n = some (.inl (), kDv h d e hd tl cap (va_up f i x), 0, 0) := by
  have h1 : i < 2147483648 := by omega
  unfold xstR
  simp only [dv_e]
  rw [if_pos ⟨trivial, by rw [i_nat h1]; rintro (q | q); exact i_nonneg h1 q; omega, hv⟩, i_nat h1]
  unfold kDv
  rw [up_up]
theorem dv_inc {i : Nat} {g : xH} (hi : i < cap) (hc : cap ≤ 100) : fJ27_inc (Int32.ofNat i) (Int32.ofNat cap) Γ g n = some (.inl (Int32.ofNat (if i + 1 < cap then i + 1 else 0)), g, 0, 0) := by
  have i1 : (1 : Int32) = Int32.ofNat 1 := rfl
  unfold fJ27_inc xlet
  rw [i1, i_add]
  by_cases c2 : i + 1 < cap
  · dsimp only
    rw [if_pos (by rw [i_lt (by omega) (by omega)]; exact c2), if_pos c2]
    rfl
  · dsimp only
    rw [if_neg (by rw [i_lt (by omega) (by omega)]; exact c2), if_neg c2]
    rfl
theorem i_m1 {i : Nat} (hi : 0 < i) : Int32.ofNat i + (-1 : Int32) = Int32.ofNat (i - 1) := by
  have m1 : (-1 : Int32) = -Int32.ofNat 1 := rfl
  rw [m1, ← Int32.sub_eq_add_neg, i_sub hi]
theorem dv_nz : ¬ (0 : Int32) ≤ Int32.ofNat 0 + (-1 : Int32) := by decide
theorem dv_sb (hi : 0 < cap) : Int32.ofNat cap - (1 : Int32) = Int32.ofNat (cap - 1) := by
  rw [show (1 : Int32) = Int32.ofNat 1 from rfl, i_sub hi]
theorem dv_decP {x y : Int32} {g : xH} (c : (0 : Int32) ≤ x) : (if (0 : Int32) ≤ x then xpure x else xpure y : xM Int32) Γ g n = some (.inl x, g, 0, 0) := by rw [if_pos c]; rfl
theorem dv_decN {x y : Int32} {g : xH} (c : ¬ (0 : Int32) ≤ x) : (if (0 : Int32) ≤ x then xpure x else xpure y : xM Int32) Γ g n = some (.inl y, g, 0, 0) := by rw [if_neg c]; rfl
theorem xlet_ap {α β : Type} (a : α) (k : α → xM β) : xlet a k = k a := rfl
theorem dv_decF (p q : Int32) : fJ27_dec p q = (if (0 : Int32) ≤ p + (-1 : Int32) then xpure (p + (-1 : Int32)) else xpure (q - 1)) := by
  unfold fJ27_dec
  rw [xlet_ap, xlet_ap]
theorem dv_dec0 {g : xH} (hi : 0 < cap) : fJ27_dec (Int32.ofNat 0) (Int32.ofNat cap) Γ g n = some (.inl (Int32.ofNat (cap - 1)), g, 0, 0) := by
  rw [dv_decF, dv_decN dv_nz, dv_sb hi]
theorem i_0le {i : Nat} (hi : i < 2147483648) : (0 : Int32) ≤ Int32.ofNat i := Int32.not_lt.mp (i_nonneg hi)
theorem dv_dec1 {i : Nat} {g : xH} (hi : i + 1 < 100) : fJ27_dec (Int32.ofNat (i + 1)) (Int32.ofNat cap) Γ g n = some (.inl (Int32.ofNat i), g, 0, 0) := by
  rw [dv_decF, i_m1 (by omega), Nat.add_sub_cancel, dv_decP (i_0le (by omega))]
theorem dv_dec {i : Nat} {g : xH} (hi : i < cap) (hc : cap ≤ 100) : fJ27_dec (Int32.ofNat i) (Int32.ofNat cap) Γ g n = some (.inl (Int32.ofNat (if i = 0 then cap - 1 else i - 1)), g, 0, 0) := by
  cases i with
  | zero => rw [if_pos rfl]; exact dv_dec0 hi
  | succ i => rw [if_neg (by omega), Nat.add_sub_cancel]; exact dv_dec1 (by omega)
/-- what the row holds -/
theorem pDq_ok {P : Nat → Prop} (hQ : ∀ x, x ∈ Q → P x) {j x : Nat} (h1 : pDq Q hd cap j = some x) : P x := by
  unfold pDq at h1
  split at h1
  · exact hQ x (List.mem_of_getElem? h1)
  · nomatch h1
theorem pDq_last (hc : cap = 17 ∨ cap = 36) (hh : hd < cap) (hl : Q.length < cap) : va_up (pDq Q hd cap) ((hd + Q.length) % cap) (some v) = pDq (Q ++ [v]) hd cap := by
  funext j
  rw [va_ap]
  unfold pDq
  by_cases c1 : j = (hd + Q.length) % cap
  · have e : (j + cap - hd) % cap = Q.length := by rcases hc with rfl | rfl <;> omega
    rw [if_pos c1, if_pos (by rw [c1]; exact Nat.mod_lt _ (by omega)), e, List.getElem?_append_right (Nat.le_refl _), Nat.sub_self]
    rfl
  · rw [if_neg c1]
    by_cases c2 : j < cap
    · rw [if_pos c2, if_pos c2]
      have e : (j + cap - hd) % cap ≠ Q.length := by rcases hc with rfl | rfl <;> omega
      by_cases c3 : (j + cap - hd) % cap < Q.length
      · rw [List.getElem?_append_left c3]
      · rw [List.getElem?_eq_none (by omega), List.getElem?_eq_none (by rw [List.length_append, List.length_singleton]; omega)]
    · rw [if_neg c2, if_neg c2]
theorem pDq_first (hc : cap = 17 ∨ cap = 36) (hh : hd < cap) (hl : Q.length < cap) : va_up (pDq Q hd cap) (if hd = 0 then cap - 1 else hd - 1) (some v) = pDq (v :: Q) (if hd = 0 then cap - 1 else hd - 1) cap := by
  funext j
  generalize hx : (if hd = 0 then cap - 1 else hd - 1) = x
  have hx' : x < cap ∧ (hd = 0 ∧ x + 1 = cap ∨ 0 < hd ∧ x + 1 = hd) := by split at hx <;> omega
  rw [va_ap]
  unfold pDq
  by_cases c1 : j = x
  · have e : (j + cap - x) % cap = 0 := by rcases hc with rfl | rfl <;> omega
    rw [if_pos c1, if_pos (by omega), e]
    rfl
  · rw [if_neg c1]
    by_cases c2 : j < cap
    · rw [if_pos c2, if_pos c2]
      by_cases c4 : (j + cap - hd) % cap + 1 < cap
      · have e : (j + cap - x) % cap = (j + cap - hd) % cap + 1 := by rcases hc with rfl | rfl <;> omega
        rw [e, List.getElem?_cons_succ]
      · exfalso
        rcases hc with rfl | rfl <;> omega
    · rw [if_neg c2, if_neg c2]
theorem pDq_drop (hc : cap = 17 ∨ cap = 36) (hh : hd < cap) (hl : (Q ++ [v]).length < cap) : va_up (pDq (Q ++ [v]) hd cap) ((hd + Q.length) % cap) none = pDq Q hd cap := by
  rw [List.length_append, List.length_singleton] at hl
  funext j
  rw [va_ap]
  unfold pDq
  by_cases c1 : j = (hd + Q.length) % cap
  · have e : (j + cap - hd) % cap = Q.length := by rcases hc with rfl | rfl <;> omega
    rw [if_pos c1, if_pos (by rw [c1]; exact Nat.mod_lt _ (by omega)), e, List.getElem?_eq_none (Nat.le_refl _)]
  · rw [if_neg c1]
    by_cases c2 : j < cap
    · rw [if_pos c2, if_pos c2]
      have e : (j + cap - hd) % cap ≠ Q.length := by rcases hc with rfl | rfl <;> omega
      by_cases c3 : (j + cap - hd) % cap < Q.length
      · rw [List.getElem?_append_left c3]
      · rw [List.getElem?_eq_none (by rw [List.length_append, List.length_singleton]; omega), List.getElem?_eq_none (by omega)]
    · rw [if_neg c2, if_neg c2]
theorem pDq_i {i : Nat} (hc : cap = 17 ∨ cap = 36) (hh : hd < cap) (hi : i < cap) : pDq Q hd cap ((hd + i) % cap) = Q[i]? := by
  unfold pDq
  rw [if_pos (Nat.mod_lt _ (by omega)), show ((hd + i) % cap + cap - hd) % cap = i by rcases hc with rfl | rfl <;> omega]
/-- a deque in this form -/
theorem kDv_c (ne : d ≠ e) (hc : cap = 17 ∨ cap = 36) (hh : hd < cap) (hl : Q.length < cap) : kDc (kDv h d e hd ((hd + Q.length) % cap) cap (pDq Q hd cap)) d e Q hd cap := by
  have eD := dv_d (h := h) (hd := hd) (tl := (hd + Q.length) % cap) (cap := cap) (f := pDq Q hd cap) ne
  have eE := dv_e (h := h) (d := d) (e := e) (hd := hd) (tl := (hd + Q.length) % cap) (cap := cap) (f := pDq Q hd cap)
  refine ⟨?_, ?_, ⟨cap, ?_⟩, ?_, by omega, hh, hl, ?_, ?_, fun i hi => ?_⟩
  · unfold yW yhd; rw [eD]; rfl
  · unfold yr yv; rw [eD]; rfl
  · unfold yhd; rw [eE]; rfl
  · unfold yln yhd; rw [eE]; rfl
  · unfold yi yv; rw [eD]; rfl
  · unfold yi yv; rw [eD]; rfl
  · unfold ylr yc; rw [eE]; exact pDq_i hc hh hi
theorem k_addLast1 (ne : d ≠ e) (hc : cap = 17 ∨ cap = 36) (hh : hd < cap) (hl : Q.length + 1 < cap) (hv : ∀ tl f, xokR (kDv h d e hd tl cap f) xokObj (some v) = true) : xsel (some d) [(23, fun z => fJ27_addLast z (some v))] Γ (kDv h d e hd ((hd + Q.length) % cap) cap (pDq Q hd cap)) n = some (.inl (), kDv h d e hd ((hd + (Q ++ [v]).length) % cap) cap (pDq (Q ++ [v]) hd cap), 0, 0) := by
  have tl : (hd + Q.length) % cap < cap := Nat.mod_lt _ (by omega)
  have c100 : cap ≤ 100 := by omega
  have st := dv_st (Γ := Γ) (n := n) (h := h) (d := d) (e := e) (hd := hd) (tl := (hd + Q.length) % cap) (f := pDq Q hd cap) (x := some v) tl c100 (hv _ _)
  rw [pDq_last hc hh (by omega)] at st
  have em : (if (hd + Q.length) % cap + 1 < cap then (hd + Q.length) % cap + 1 else 0) = (hd + (Q ++ [v]).length) % cap := by
    rw [List.length_append, List.length_singleton]
    split <;> rcases hc with rfl | rfl <;> omega
  have nt : ¬ hd = (hd + (Q ++ [v]).length) % cap := by
    rw [List.length_append, List.length_singleton]
    rcases hc with rfl | rfl <;> omega
  have tl2 : (hd + (Q ++ [v]).length) % cap < cap := Nat.mod_lt _ (by omega)
  rw [dv_sel ne]
  unfold fJ27_addLast
  rw [if_neg (fun z => nomatch z), x_b1 (dv_g0 ne), x_b1 (dv_g2 ne), x_b1 st, x_b1 (dv_g1 ne), x_b1 (dv_g2 ne), x_b1 dv_len, x_b1 (dv_inc tl c100), em, x_b1 (dv_p2 ne), if_neg (by rw [i_eq (by omega) (by omega)]; exact nt)]
  rfl
theorem k_addFirst1 (ne : d ≠ e) (hc : cap = 17 ∨ cap = 36) (hh : hd < cap) (hl : Q.length + 1 < cap) (hv : ∀ hd tl f, xokR (kDv h d e hd tl cap f) xokObj (some v) = true) : ∃ hd', hd' < cap ∧ xsel (some d) [(23, fun z => fJ27_addFirst z (some v))] Γ (kDv h d e hd ((hd + Q.length) % cap) cap (pDq Q hd cap)) n = some (.inl (), kDv h d e hd' ((hd' + (v :: Q).length) % cap) cap (pDq (v :: Q) hd' cap), 0, 0) := by
  have c100 : cap ≤ 100 := by omega
  have hx : (if hd = 0 then cap - 1 else hd - 1) < cap := by split <;> omega
  have st := dv_st (Γ := Γ) (n := n) (h := h) (d := d) (e := e) (hd := if hd = 0 then cap - 1 else hd - 1) (tl := (hd + Q.length) % cap) (f := pDq Q hd cap) (x := some v) hx c100 (hv _ _ _)
  rw [pDq_first hc hh (by omega)] at st
  have em : (hd + Q.length) % cap = ((if hd = 0 then cap - 1 else hd - 1) + (v :: Q).length) % cap := by
    rw [List.length_cons]
    split <;> rcases hc with rfl | rfl <;> omega
  refine ⟨_, hx, ?_⟩
  rw [dv_sel ne]
  unfold fJ27_addFirst
  rw [if_neg (fun z => nomatch z), x_b1 (dv_g0 ne), x_b1 (dv_g1 ne), x_b1 dv_len, x_b1 (dv_dec hh c100), x_b1 (dv_p1 ne), x_b1 st, x_b1 (dv_g1 ne), x_b1 (dv_g2 ne), em, if_neg (by
    have : ((if hd = 0 then cap - 1 else hd - 1) + (v :: Q).length) % cap < cap := Nat.mod_lt _ (by omega)
    rw [i_eq (by omega) (by omega), List.length_cons]
    generalize (if hd = 0 then cap - 1 else hd - 1) = x at *
    rcases hc with rfl | rfl <;> omega)]
  rfl
theorem k_remLast (ne : d ≠ e) (hc : cap = 17 ∨ cap = 36) (hh : hd < cap) (hl : (Q ++ [v]).length < cap) : xsel (some d) [(23, fun z => fJ27_removeLast z)] Γ (kDv h d e hd ((hd + (Q ++ [v]).length) % cap) cap (pDq (Q ++ [v]) hd cap)) n = some (.inl (some v), kDv h d e hd ((hd + Q.length) % cap) cap (pDq Q hd cap), 0, 0) := by
  have c100 : cap ≤ 100 := by omega
  have hl' := hl
  rw [List.length_append, List.length_singleton] at hl'
  have tl : (hd + (Q ++ [v]).length) % cap < cap := Nat.mod_lt _ (by omega)
  have tl2 : (hd + Q.length) % cap < cap := Nat.mod_lt _ (by omega)
  have em : (if (hd + (Q ++ [v]).length) % cap = 0 then cap - 1 else (hd + (Q ++ [v]).length) % cap - 1) = (hd + Q.length) % cap := by
    rw [List.length_append, List.length_singleton]
    split <;> rcases hc with rfl | rfl <;> omega
  have ld : ∀ tl', xldR (some e) (Int32.ofNat ((hd + Q.length) % cap)) Γ (kDv h d e hd tl' cap (pDq (Q ++ [v]) hd cap)) n = some (.inl (some v), kDv h d e hd tl' cap (pDq (Q ++ [v]) hd cap), 0, 0) := by
    intro tl'
    rw [dv_ld tl2 c100, pDq_i hc hh (by omega), List.getElem?_append_right (Nat.le_refl _), Nat.sub_self]
    rfl
  have st := dv_st (Γ := Γ) (n := n) (h := h) (d := d) (e := e) (hd := hd) (tl := (hd + Q.length) % cap) (f := pDq (Q ++ [v]) hd cap) (x := none) tl2 c100 rfl
  rw [pDq_drop hc hh hl] at st
  have e1 : xsel (some d) [(23, fun z => fJ27_pollLast z)] Γ (kDv h d e hd ((hd + (Q ++ [v]).length) % cap) cap (pDq (Q ++ [v]) hd cap)) n = some (.inl (some v), kDv h d e hd ((hd + Q.length) % cap) cap (pDq Q hd cap), 0, 0) := by
    rw [dv_sel ne]
    unfold fJ27_pollLast
    have e2 : fJ27_elementAt (some e) (Int32.ofNat ((hd + Q.length) % cap)) Γ (kDv h d e hd ((hd + (Q ++ [v]).length) % cap) cap (pDq (Q ++ [v]) hd cap)) n = some (.inl (some v), kDv h d e hd ((hd + (Q ++ [v]).length) % cap) cap (pDq (Q ++ [v]) hd cap), 0, 0) := by
      unfold fJ27_elementAt
      rw [x_b1 (ld _)]
      rfl
    rw [x_b1 (dv_g0 ne), x_b1 (dv_g2 ne), x_b1 dv_len, x_b1 (dv_dec tl c100), em, x_b1 e2, if_neg (fun z => nomatch z), x_b1 (dv_p2 ne), x_b1 st]
    rfl
  rw [dv_sel ne]
  unfold fJ27_removeLast
  rw [x_b1 e1, if_neg (fun z => nomatch z)]
  rfl
end DV
