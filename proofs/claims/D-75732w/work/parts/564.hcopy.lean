/-! part 564: a herd is copied -/
def hC1 (p n : Nat) (f1 f3 : Nat → Int32) (r m fl : Int32) (l : Nat → Int32) : List xAC := [(true, .inr (19, [.ref p, .ref (n + 1), .ref (n + 5), .int r, .int m, .int fl, .ref (n + 7), .ref (n + 3)])), (true, .inl (1, 13, .inl f1)), (true, .inr (22, [.int 0, .int 0, .int 0, .int 0, .int 0, .int 0, .int 0])), (true, .inr (23, [.ref (n + 4), .int 0, .int 0])), (true, .inl (5, 17, .inr (.inr (.inr (.inr (fun _ => none)))))), (true, .inr (24, [.ref p, .ref (n + 6), .int 0, .int 0])), (true, .inl (1, 13, .inl f3)), (true, .inr (22, [.int (l 0), .int (l 1), .int (l 2), .int (l 3), .int (l 4), .int (l 5), .int (l 6)]))]
section HC
variable {Γ : Nat → Option Nat} {h : xH} {n p fe o a : Nat} {Y : Nat → Nat} {N : Nat → Int32} {s : Nat}
theorem X_cpI {m i t M A : Nat} {L : List xAC} {f g : Nat → Int32} {w : Bool} (an : A < n) (hA : h A = some (w, .inl (t, M, .inl f))) (hL : L[i]? = some (true, .inl (t, M, .inl g))) (hM : M ≤ 1000000) : xcpI t .int (some A) (0 : Int32) (some (n + i)) (0 : Int32) (Int32.ofNat M) Γ (xX h n L) m = some (.inl (), xX h n (L.set i (true, .inl (t, M, .inl (va_cpy f g 0 0 M)))), 0, 0) := by
  have c0 : (0 : Int32).toNatClampNeg = 0 := by decide
  have hi := (List.getElem?_eq_some_iff.mp hL).1
  unfold xcpI xarr
  simp only [xX_old an, hA, xX_at, hL, c0]
  rw [i_nat (by omega), if_pos ⟨trivial, trivial, by decide, by decide, i_nonneg (by omega), by omega, by omega, by rw [List.all_eq_true]; exact fun _ _ => rfl⟩, xX_up hi]
theorem yB_cell {t A M : Nat} (hB : yB h t A) (ht : ytk t = 0) (hl : yln h A = M) : h A = some (true, .inl (t, M, .inl (yli h t A))) := by
  obtain ⟨N', x, hc, hk, hl', hx⟩ := yarrB hB
  rw [hl] at hl'
  subst hl'
  rw [ht] at hk
  have : x = .inl (yli h t A) := by
    unfold yli
    rw [hx]
    revert hk
    rcases x with f | f | f | f | f <;> simp [ykc, ycI]
  rw [← this]
  exact hc
theorem cpy_13 {f g : Nat → Int32} {j : Nat} (hj : j < 13) : va_cpy f g 0 0 13 j = f j := by
  unfold va_cpy
  rw [if_pos (by omega), Nat.zero_add, Nat.sub_zero]
/-- the iterator and the deque lie apart -/
theorem ir_dv {G : xH} {it d0 d e hd tl cap : Nat} {c r l : Int32} {f : Nat → Option Nat} (h1 : it ≠ d) (h2 : it ≠ e) : kIr (kDv G d e hd tl cap f) it d0 c r l = kDv (kIr G it d0 c r l) d e hd tl cap f := by
  unfold kIr kDv
  rw [up_comm h2.symm, up_comm h1.symm]
theorem k_hCopy81 {G0 : xH} {Q : List Nat} {hd0 cap0 : Nat} (D : kDc h (Y 5) (Y 6) Q hd0 cap0) (S : kSg h Q N s) (hb : xbd n h) (old : ∀ a, a < n → G0 a = h a) (g7 : ∀ (g : xH) m, g n = G0 n → xgR 19 7 (some n) Γ g m = some (.inl (some (n + 3)), g, 0, 0)) :
    ∀ (r i fu : Nat) (G : xH) (e hd cap k : Nat) (l : Int32), i + r = Q.length → r < fu → ((cap = 17 ∧ e = n + 4 ∧ k = 0 ∧ i ≤ 16) ∨ (cap = 36 ∧ e = n + 9 ∧ k = 1)) → hd < cap → (∀ a, a < n + 8 → a ≠ n + 3 → a ≠ n + 4 → G a = G0 a) → xbd (n + 9 + k) G → G (n + 8) = none →
    ∃ G' e' hd' cap' k' l' c', fX6_copy_p81 fu n (some (n + 8)) Γ (kIr (kDv G (n + 3) e hd ((hd + i) % cap) cap (pDq (Q.take i) hd cap)) (n + 8) (Y 5) (Int32.ofNat ((hd0 + i) % cap0)) (Int32.ofNat (Q.length - i)) l) (n + 9 + k) = some (.inl (some n), kIr (kDv G' (n + 3) e' hd' ((hd' + Q.length) % cap') cap' (pDq Q hd' cap')) (n + 8) (Y 5) c' (Int32.ofNat 0) l', k' - k, 36 * (k' - k)) ∧ k ≤ k' ∧ ((cap' = 17 ∧ e' = n + 4 ∧ k' = 0 ∧ Q.length ≤ 16) ∨ (cap' = 36 ∧ e' = n + 9 ∧ k' = 1)) ∧ hd' < cap' ∧ (∀ a, a < n + 8 → a ≠ n + 3 → a ≠ n + 4 → G' a = G0 a) ∧ xbd (n + 9 + k') G' ∧ G' (n + 8) = none := by
  have h20 := S.2.1
  intro r
  induction r with
  | zero =>
    intro i fu G e hd cap k l hi hf hc hh hG hB hI
    obtain ⟨fu, rfl⟩ : ∃ g, fu = g + 1 := ⟨fu - 1, by omega⟩
    obtain rfl : i = Q.length := by omega
    refine ⟨G, e, hd, cap, k, l, Int32.ofNat ((hd0 + Q.length) % cap0), ?_, Nat.le_refl _, hc, hh, hG, hB, hI⟩
    rw [List.take_length, Nat.sub_self, Nat.sub_self, fX6_copy_p81, x_b1 (ir_sel.trans (kd_has (by omega))), decide_eq_false (by omega), b2i_f, if_pos (by decide)]
    rfl
  | succ r ih =>
    intro i fu G e hd cap k l hi hf hc hh hG hB hI
    obtain ⟨fu, rfl⟩ : ∃ g, fu = g + 1 := ⟨fu - 1, by omega⟩
    have iq : i < Q.length := by omega
    have ct : (Q.take i).length = i := by rw [List.length_take]; omega
    have tk : Q.take (i + 1) = Q.take i ++ [Q[i]] := by rw [List.take_succ, List.getElem?_eq_getElem iq]; rfl
    have c36 : cap = 17 ∨ cap = 36 := by omega
    have den : n + 3 ≠ e := by omega
    have y37 : ∀ x, x ∈ Q → yO h 37 x := by
      intro x hx
      obtain ⟨j, hj, rfl⟩ := List.getElem_of_mem hx
      exact (S.2.2 j hj).1
    have ltQ : ∀ x, x ∈ Q → x < n := fun x hx => xbd_lt hb (yO_at (y37 x hx))
    have D1 : kDc (kDv G (n + 3) e hd ((hd + i) % cap) cap (pDq (Q.take i) hd cap)) (Y 5) (Y 6) Q hd0 cap0 := by
      refine D.mono (fun a ha => ?_)
      have := xbd_lt hb ha
      rw [dv_o (by omega) (by omega), hG a (by omega) (by omega) (by omega), old a this]
    have itn : kDv G (n + 3) e hd ((hd + i) % cap) cap (pDq (Q.take i) hd cap) (n + 8) = none := by
      rw [dv_o (by omega) (by omega)]
      exact hI
    obtain ⟨l', en⟩ := kd_next (Γ := Γ) (n := n + 9 + k) (l := l) D1 itn iq
    have oH : ∀ (c r l : Int32) a, a < n → kIr (kDv G (n + 3) e hd ((hd + i) % cap) cap (pDq (Q.take i) hd cap)) (n + 8) (Y 5) c r l a = h a := by
      intro c r l a ha
      unfold kIr
      rw [up_ne (by omega), dv_o (by omega) (by omega), hG a (by omega) (by omega) (by omega), old a ha]
    have yq := y37 _ (List.getElem_mem iq)
    have c37 : xcst (fun c => c == 37) (some Q[i]) Γ (kIr (kDv G (n + 3) e hd ((hd + i) % cap) cap (pDq (Q.take i) hd cap)) (n + 8) (Y 5) (Int32.ofNat ((hd0 + (i + 1)) % cap0)) (Int32.ofNat (Q.length - (i + 1))) l') (n + 9 + k) = some (.inl (), kIr (kDv G (n + 3) e hd ((hd + i) % cap) cap (pDq (Q.take i) hd cap)) (n + 8) (Y 5) (Int32.ofNat ((hd0 + (i + 1)) % cap0)) (Int32.ofNat (Q.length - (i + 1))) l', 0, 0) := k_cst ((yO_c (oH _ _ _ _ (ltQ _ (List.getElem_mem iq)))).mpr yq) rfl
    have gd : xgR 19 7 (some n) Γ (kIr (kDv G (n + 3) e hd ((hd + i) % cap) cap (pDq (Q.take i) hd cap)) (n + 8) (Y 5) (Int32.ofNat ((hd0 + (i + 1)) % cap0)) (Int32.ofNat (Q.length - (i + 1))) l') (n + 9 + k) = some (.inl (some (n + 3)), kIr (kDv G (n + 3) e hd ((hd + i) % cap) cap (pDq (Q.take i) hd cap)) (n + 8) (Y 5) (Int32.ofNat ((hd0 + (i + 1)) % cap0)) (Int32.ofNat (Q.length - (i + 1))) l', 0, 0) := by
      refine g7 _ _ ?_
      unfold kIr
      rw [up_ne (by omega), dv_o (by omega) (by omega), hG n (by omega) (by omega) (by omega)]
    have start : fX6_copy_p81 (fu + 1) n (some (n + 8)) Γ (kIr (kDv G (n + 3) e hd ((hd + i) % cap) cap (pDq (Q.take i) hd cap)) (n + 8) (Y 5) (Int32.ofNat ((hd0 + i) % cap0)) (Int32.ofNat (Q.length - i)) l) (n + 9 + k) = (xbind (xsel (some (n + 3)) [(23, fun z => fJ27_addLast z (some Q[i]))]) fun _ => fX6_copy_p81 fu n (some (n + 8))) Γ (kDv (kIr G (n + 8) (Y 5) (Int32.ofNat ((hd0 + (i + 1)) % cap0)) (Int32.ofNat (Q.length - (i + 1))) l') (n + 3) e hd ((hd + (Q.take i).length) % cap) cap (pDq (Q.take i) hd cap)) (n + 9 + k) := by
      rw [fX6_copy_p81, x_b1 (ir_sel.trans (kd_has (by omega))), decide_eq_true (by omega), b2i_t, if_neg (by decide), x_b1 (ir_sel.trans en), x_b1 c37, x_b1 gd, ir_dv (by omega) (by omega), ct]
    rw [start]
    have oG : ∀ (c r l : Int32) a, a < n → kIr G (n + 8) (Y 5) c r l a = h a := by
      intro c r l a ha
      unfold kIr
      rw [up_ne (by omega), hG a (by omega) (by omega) (by omega), old a ha]
    have okQ : ∀ (c r l : Int32) (hd tl cap : Nat) (f : Nat → Option Nat), xokR (kDv (kIr G (n + 8) (Y 5) c r l) (n + 3) e hd tl cap f) xokObj (some Q[i]) = true := by
      intro c r l hd tl cap f
      have lt := ltQ _ (List.getElem_mem iq)
      exact k_okR ((yO_c ((dv_o (by omega) (by omega)).trans (oG c r l _ lt))).mpr yq) rfl
    by_cases full : cap = 17 ∧ i = 16
    · obtain ⟨f1, f2⟩ := full
      subst f1
      have hc' : e = n + 4 ∧ k = 0 := by omega
      obtain ⟨he, hk⟩ := hc'
      subst hk
      have a2 := k_addLast2 (Γ := Γ) (n := n + 9 + 0) (h := kIr G (n + 8) (Y 5) (Int32.ofNat ((hd0 + (i + 1)) % cap0)) (Int32.ofNat (Q.length - (i + 1))) l') (d := n + 3) (e := e) (hd := hd) (Q := Q.take i) (v := Q[i]) den (by omega) (by omega) hh (by omega) (fun x hx => by
        rw [← tk] at hx
        have xq := List.mem_of_mem_take hx
        have lt := ltQ x xq
        exact ⟨37, (yO_c (oG _ _ _ _ lt)).mpr (y37 x xq), rfl, by omega, by omega, by omega⟩)
      rw [x_bc a2, ← tk]
      have ct2 : (Q.take (i + 1)).length = i + 1 := by rw [List.length_take]; omega
      have cm : xupd (kIr G (n + 8) (Y 5) (Int32.ofNat ((hd0 + (i + 1)) % cap0)) (Int32.ofNat (Q.length - (i + 1))) l') e (true, .inl (5, 17, .inr (.inr (.inr (.inr (pDq (Q.take (i + 1)) hd 17)))))) = kIr (xupd G e (true, .inl (5, 17, .inr (.inr (.inr (.inr (pDq (Q.take (i + 1)) hd 17))))))) (n + 8) (Y 5) (Int32.ofNat ((hd0 + (i + 1)) % cap0)) (Int32.ofNat (Q.length - (i + 1))) l' := by
        unfold kIr
        rw [up_comm (by omega)]
      rw [cm, ct2, ← ir_dv (by omega) (by omega)]
      obtain ⟨G', e', hd', cap', k', l2, c', r1, r2, r3, r4, r5, r6, r7⟩ := ih (i + 1) fu (xupd G e (true, .inl (5, 17, .inr (.inr (.inr (.inr (pDq (Q.take (i + 1)) hd 17))))))) (n + 9 + 0) (hd + 19) 36 1 l' (by omega) (by omega) (Or.inr ⟨rfl, by omega, rfl⟩) (by omega) (fun a a1 a2 a3 => by rw [up_ne (by omega)]; exact hG a a1 a2 a3) (fun a ha => by rw [up_ne (by omega)]; exact hB a (by omega)) (by rw [up_ne (by omega)]; exact hI)
      refine ⟨G', e', hd', cap', k', l2, c', ?_, by omega, r3, r4, r5, r6, r7⟩
      have k1 : k' = 1 := by omega
      subst k1
      have r1' := r1
      rw [show n + 9 + 1 = n + 9 + 0 + 1 by omega] at r1'
      rw [r1']
      rfl
    · have a1 := k_addLast1 (Γ := Γ) (n := n + 9 + k) (h := kIr G (n + 8) (Y 5) (Int32.ofNat ((hd0 + (i + 1)) % cap0)) (Int32.ofNat (Q.length - (i + 1))) l') (d := n + 3) (e := e) (hd := hd) (cap := cap) (Q := Q.take i) (v := Q[i]) den c36 hh (by omega) (fun tl f => okQ _ _ _ _ _ _ _)
      have ct2 : (Q.take (i + 1)).length = i + 1 := by rw [List.length_take]; omega
      rw [x_b1 a1, ← tk, ct2, ← ir_dv (by omega) (by omega)]
      exact ih (i + 1) fu G e hd cap k l' (by omega) (by omega) (by omega) hh hG hB hI
end HC
