/-! part 519: one object over a heap; a deque is gone through; sightings -/
section O1
variable {Γ : Nat → Option Nat} {h : xH} {n a ci k : Nat} {fs : List Value}
theorem o1_obj : xobj (xupd h a (true, .inr (ci, fs))) (some a) = some (a, ci, fs) := by unfold xobj; simp only [up_self]
theorem o1_gI {v : Int32} (hk : fs[k]? = some (.int v)) : xgI ci k (some a) Γ (xupd h a (true, .inr (ci, fs))) n = some (.inl v, xupd h a (true, .inr (ci, fs)), 0, 0) := by
  unfold xgI xget
  rw [o1_obj]
  simp only [if_true, hk]
theorem o1_gR {v : Option Nat} (hk : fs[k]? = some (va_rf v)) : xgR ci k (some a) Γ (xupd h a (true, .inr (ci, fs))) n = some (.inl v, xupd h a (true, .inr (ci, fs)), 0, 0) := by
  unfold xgR xget
  rw [o1_obj]
  cases v <;> simp only [if_true, hk] <;> rfl
theorem o1_p {v : Value} (hk : k < fs.length) : xput ci k (some a) v Γ (xupd h a (true, .inr (ci, fs))) n = some (.inl (), xupd h a (true, .inr (ci, fs.set k v)), 0, 0) := by
  unfold xput
  simp only [up_self]
  rw [if_pos ⟨trivial, hk⟩, up_up]
theorem o1_sel {α : Type} {g : Nat → xM α} {L : List (Nat × (Nat → xM α))} : xsel (some a) ((ci, g) :: L) Γ (xupd h a (true, .inr (ci, fs))) n = g a Γ (xupd h a (true, .inr (ci, fs))) n := by
  unfold xsel
  rw [o1_obj]
  simp [List.lookup]
end O1
/-- an iterator over a deque d -/
def kIr (h : xH) (it d : Nat) (c r l : Int32) : xH := xupd h it (true, .inr (12, [.int c, .int r, .int l, .ref d]))
section KI
variable {Γ : Nat → Option Nat} {h : xH} {n it d e : Nat} {c r l : Int32}
theorem ir_g0 : xgI 12 0 (some it) Γ (kIr h it d c r l) n = some (.inl c, kIr h it d c r l, 0, 0) := o1_gI rfl
theorem ir_g1 : xgI 12 1 (some it) Γ (kIr h it d c r l) n = some (.inl r, kIr h it d c r l, 0, 0) := o1_gI rfl
theorem ir_g3 : xgR 12 3 (some it) Γ (kIr h it d c r l) n = some (.inl (some d), kIr h it d c r l, 0, 0) := o1_gR rfl
theorem ir_p0 {v : Int32} : xput 12 0 (some it) (.int v) Γ (kIr h it d c r l) n = some (.inl (), kIr h it d v r l, 0, 0) := o1_p (by simp)
theorem ir_p1 {v : Int32} : xput 12 1 (some it) (.int v) Γ (kIr h it d c r l) n = some (.inl (), kIr h it d c v l, 0, 0) := o1_p (by simp)
theorem ir_p2 {v : Int32} : xput 12 2 (some it) (.int v) Γ (kIr h it d c r l) n = some (.inl (), kIr h it d c r v, 0, 0) := o1_p (by simp)
theorem ir_sel {α : Type} {g : Nat → xM α} : xsel (some it) [(12, g)] Γ (kIr h it d c r l) n = g it Γ (kIr h it d c r l) n := o1_sel
theorem ir_sub (hi : h it = none) : hsub h (kIr h it d c r l) := hsub_up hi
/-- a deque with head hd and room cap -/
def kDc (h : xH) (d e : Nat) (Q : List Nat) (hd cap : Nat) : Prop := yW h 23 d ∧ yr h 23 0 d = some e ∧ yB h 5 e ∧ yln h e = cap ∧ (cap = 17 ∨ cap = 36) ∧ hd < cap ∧ Q.length < cap ∧ yi h 23 1 d = Int32.ofNat hd ∧ yi h 23 2 d = Int32.ofNat ((hd + Q.length) % cap) ∧ ∀ i, i < cap → ylr h 5 e ((hd + i) % cap) = Q[i]?
theorem kDq.dc {Q : List Nat} (H : kDq h d e Q) : ∃ hd cap, kDc h d e Q hd cap := by
  obtain ⟨a1, a2, a3, hd, cap, b⟩ := H
  exact ⟨hd, cap, a1, a2, a3, b⟩
theorem kDc.q {Q : List Nat} {hd cap : Nat} (H : kDc h d e Q hd cap) : kDq h d e Q := by
  obtain ⟨a1, a2, a3, b⟩ := H
  exact ⟨a1, a2, a3, hd, cap, b⟩
theorem kDc.mono {g : xH} {Q : List Nat} {hd cap : Nat} (H : kDc h d e Q hd cap) (hs : hsub h g) : kDc g d e Q hd cap := by
  obtain ⟨a1, a2, a3, b1, b2, b3, b4, b5, b6, b7⟩ := H
  have e1 := hs _ (yO_at (yO_of _ _ _ a1))
  have e2 := hs _ (yA_at (yA_of _ _ _ a3))
  exact ⟨(yW_c e1).mpr a1, (yr_c e1).trans a2, (yB_c e2).mpr a3, (yln_c e2).trans b1, b2, b3, b4, (yi_c e1).trans b5, (yi_c e1).trans b6, fun i hi => by rw [ylr_c e2]; exact b7 i hi⟩
theorem kd_iter {Q : List Nat} {hd cap : Nat} (H : kDc h d e Q hd cap) (hb : xbd n h) : xsel (some d) [(23, fun z => fJ27_iterator z)] Γ h n = some (.inl (some n), kIr h n d (Int32.ofNat hd) (Int32.ofNat Q.length) (-Int32.ofNat 1), 1, 4) := by
  have hs : ∀ (fs : List Value), hsub h (xupd h n (true, .inr (12, fs))) := fun fs => hsub_up (hb n (Nat.le_refl _))
  have e3 := o1_p (Γ := Γ) (h := h) (n := n + 1) (a := n) (ci := 12) (k := 3) (fs := [.int 0, .int 0, .int 0, .null]) (v := va_rf (some d)) (by simp)
  have z0 : (xupd h n (true, .inr (12, [Value.int 0, .int 0, .int 0, .null].set 3 (va_rf (some d)))) : xH) = kIr h n d 0 0 0 := rfl
  rw [z0] at e3
  have Hm := fun (c r l : Int32) => H.mono (ir_sub (d := d) (c := c) (r := r) (l := l) (hb n (Nat.le_refl _)))
  have es := kd_size (Γ := Γ) (n := n + 1) (Hm 0 0 0).q
  have eh := fun (c r l : Int32) => e_gI (Γ := Γ) (n := n + 1) (yO_of _ _ _ (Hm c r l).1) kn23_1
  have eh2 := fun (c r l : Int32) => (Hm c r l).2.2.2.2.2.2.2.1
  have m1 : (-1 : Int32) = -Int32.ofNat 1 := rfl
  rw [e_sel (yO_of _ _ _ H.1)]
  unfold fJ27_iterator
  rw [x_bc (show xnew 12 [.int 0, .int 0, .int 0, .null] 4 Γ h n = some (.inl n, xupd h n (true, .inr (12, [.int 0, .int 0, .int 0, .null])), 1, 4) from rfl)]
  unfold fJ41_init
  have e4 : (xbind (xput 12 3 (some n) (va_rf (some d))) fun _ => xbind (xgR 12 3 (some n)) fun v11 => xbind (xsel v11 [(23, fun z => fJ27_size z)]) fun v14 => xbind (xput 12 1 (some n) (.int v14)) fun _ => xbind (xput 12 2 (some n) (.int (-1 : Int32))) fun _ => xbind (xgI 23 1 (some d)) fun v27 => xbind (xput 12 0 (some n) (.int v27)) fun _ => xpure ()) Γ (xupd h n (true, .inr (12, [.int 0, .int 0, .int 0, .null]))) (n + 1) = some (.inl (), kIr h n d (Int32.ofNat hd) (Int32.ofNat Q.length) (-Int32.ofNat 1), 0, 0) := by
    rw [x_b1 e3, x_b1 ir_g3, x_b1 es, x_b1 ir_p1, x_b1 ir_p2, x_b1 (eh _ _ _), eh2, x_b1 ir_p0, m1]
    rfl
  rw [x_b1 e4]
  rfl
theorem kd_has {k : Nat} (hk : k < 2147483648) : fJ41_hasNext it Γ (kIr h it d c (Int32.ofNat k) l) n = some (.inl (b2i (decide (0 < k))), kIr h it d c (Int32.ofNat k) l, 0, 0) := by
  unfold fJ41_hasNext
  rw [x_b1 ir_g1]
  have i0 : (0 : Int32) = Int32.ofNat 0 := rfl
  by_cases c0 : 0 < k
  · rw [i0, if_neg (by rw [i_le hk (by decide)]; omega), decide_eq_true c0]
    rfl
  · rw [i0, if_pos (by rw [i_le hk (by decide)]; omega), decide_eq_false c0]
    rfl
theorem kd_next {Q : List Nat} {hd cap i : Nat} (H : kDc h d e Q hd cap) (hi : h it = none) (hq : i < Q.length) : ∃ l', fJ41_next it Γ (kIr h it d (Int32.ofNat ((hd + i) % cap)) (Int32.ofNat (Q.length - i)) l) n = some (.inl (some Q[i]), kIr h it d (Int32.ofNat ((hd + (i + 1)) % cap)) (Int32.ofNat (Q.length - (i + 1))) l', 0, 0) := by
  have Hm := fun (c r l : Int32) => H.mono (ir_sub (d := d) (c := c) (r := r) (l := l) hi)
  have c100 := H.2.2.2.2.1
  have hl := H.2.2.2.2.2.2.1
  have hh := H.2.2.2.2.2.1
  have mlt : (hd + i) % cap < cap := Nat.mod_lt _ (by omega)
  have i0 : (0 : Int32) = Int32.ofNat 0 := rfl
  have i1 : (1 : Int32) = Int32.ofNat 1 := rfl
  have c1 : Int32.ofNat 0 < Int32.ofNat (Q.length - i) := by rw [i_lt (by decide) (by omega)]; omega
  have g0 := fun (c r l : Int32) => e_gR (Γ := Γ) (n := n) (yO_of _ _ _ (Hm c r l).1) kn23_0
  have g0' := fun (c r l : Int32) => (Hm c r l).2.1
  have ld : ∀ (c r l : Int32), xldR (some e) (Int32.ofNat ((hd + i) % cap)) Γ (kIr h it d c r l) n = some (.inl (some Q[i]), kIr h it d c r l, 0, 0) := by
    intro c r l
    have K := Hm c r l
    rw [e_ldR (yA_of _ _ _ K.2.2.1) ytk_5 (by omega) (yin_of (by rw [K.2.2.2.1]; exact mlt) (by omega)), i_nat (by omega), K.2.2.2.2.2.2.2.2.2 i (by omega), List.getElem?_eq_getElem hq]
  have ln : ∀ (c r l : Int32), xlen (some e) Γ (kIr h it d c r l) n = some (.inl (Int32.ofNat cap), kIr h it d c r l, 0, 0) := by
    intro c r l
    have K := Hm c r l
    rw [e_len (yA_of _ _ _ K.2.2.1), K.2.2.2.1]
  have nz : ¬ (some Q[i] : Option Nat) = none := fun z => nomatch z
  have ne : ∀ (c r l : Int32), fJ27_nonNullElementAt (some e) (Int32.ofNat ((hd + i) % cap)) Γ (kIr h it d c r l) n = some (.inl (some Q[i]), kIr h it d c r l, 0, 0) := by
    intro c r l
    unfold fJ27_nonNullElementAt
    rw [x_b1 (ld c r l), if_neg nz]
    rfl
  have inc : ∀ (g : xH), fJ27_inc (Int32.ofNat ((hd + i) % cap)) (Int32.ofNat cap) Γ g n = some (.inl (Int32.ofNat ((hd + (i + 1)) % cap)), g, 0, 0) := by
    intro g
    unfold fJ27_inc xlet
    rw [i1, i_add]
    by_cases c2 : (hd + i) % cap + 1 < cap
    · have em : (hd + (i + 1)) % cap = (hd + i) % cap + 1 := by rw [← Nat.add_assoc, Nat.add_mod, Nat.mod_eq_of_lt (show 1 < cap by omega), Nat.mod_eq_of_lt c2]
      dsimp only
      rw [if_pos (by rw [i_lt (by omega) (by omega)]; exact c2), em]
      rfl
    · have em : (hd + (i + 1)) % cap = 0 := by
        by_cases c3 : cap = 1
        · subst c3; exact Nat.mod_one _
        · rw [← Nat.add_assoc, Nat.add_mod, Nat.mod_eq_of_lt (show 1 < cap by omega), show (hd + i) % cap + 1 = cap by omega, Nat.mod_self]
      dsimp only
      rw [if_neg (by rw [i_lt (by omega) (by omega)]; exact c2), em]
      rfl
  have sb : Int32.ofNat (Q.length - i) - Int32.ofNat 1 = Int32.ofNat (Q.length - (i + 1)) := by rw [i_sub (by omega)]; congr 1
  refine ⟨Int32.ofNat ((hd + i) % cap), ?_⟩
  unfold fJ41_next
  rw [x_b1 ir_g1, i0, if_pos c1, x_b1 ir_g3, x_b1 (g0 _ _ _), g0', x_b1 ir_g0, x_b1 (ne _ _ _), x_b1 ir_g0, x_b1 ir_p2, x_b1 (ln _ _ _), x_b1 (inc _), x_b1 ir_p0, x_b1 ir_g1, i1, sb, x_b1 ir_p1]
  rfl
end KI
section KJ
variable {Γ : Nat → Option Nat} {h : xH} {n it d e : Nat} {Y : Nat → Nat} {p fe s : Nat} {N : Nat → Int32}
theorem k_cst {g : xH} {a c : Nat} {ok : Nat → Bool} (H : yO g c a) (hc : ok c = true) : xcst ok (some a) Γ g n = some (.inl (), g, 0, 0) := by
  obtain ⟨w, fs, h1, hm, ho⟩ := yobj H
  unfold xcst xokR
  simp only [ho, hc, if_true]
theorem k_sightAt_p15 {Q : List Nat} {hd cap : Nat} (H : kDc h d e Q hd cap) (hg : kSg h Q N s) (hi : h it = none) : ∀ (k i fu : Nat) (q l : Int32), i + k = Q.length → k < fu →
    ∃ c r l', fX1_sightingAt_p15 fu q (some it) Γ (kIr h it d (Int32.ofNat ((hd + i) % cap)) (Int32.ofNat k) l) n = some (.inl (if 0 ≤ q.toInt ∧ q.toInt < k then Q[i + q.toInt.toNat]? else none), kIr h it d c r l', 0, 0) := by
  have h20 := hg.2.1
  intro k
  induction k with
  | zero =>
    intro i fu q l hi' hf
    obtain ⟨fu, rfl⟩ : ∃ g, fu = g + 1 := ⟨fu - 1, by omega⟩
    refine ⟨Int32.ofNat ((hd + i) % cap), Int32.ofNat 0, l, ?_⟩
    rw [fX1_sightingAt_p15, x_b1 (ir_sel.trans (kd_has (by omega))), decide_eq_false (by omega), b2i_f, if_pos (show Int32.ofNat 0 = 0 from rfl), if_neg (by omega)]
    rfl
  | succ k ih =>
    intro i fu q l hi' hf
    obtain ⟨fu, rfl⟩ : ∃ g, fu = g + 1 := ⟨fu - 1, by omega⟩
    have hq : i < Q.length := by omega
    have e1 : k + 1 = Q.length - i := by omega
    have e2 : k = Q.length - (i + 1) := by omega
    obtain ⟨l', en⟩ := kd_next (Γ := Γ) (n := n) (l := l) H hi hq
    rw [← e1, ← e2] at en
    have c37 := k_cst (Γ := Γ) (n := n) (ok := fun c => c == 37) (((yO_c (ir_sub (d := d) (c := Int32.ofNat ((hd + (i + 1)) % cap)) (r := Int32.ofNat k) (l := l') hi _ (yO_at (hg.2.2 i hq).1))).mpr (hg.2.2 i hq).1)) rfl
    have i0 : (0 : Int32) = Int32.ofNat 0 := rfl
    have hk20 : k ≤ 20 := by omega
    clear e1 e2
    rw [fX1_sightingAt_p15, x_b1 (ir_sel.trans (kd_has (by omega))), decide_eq_true (by omega), b2i_t, i0, if_neg b2i_1, x_b1 (ir_sel.trans en), x_b1 c37]
    by_cases c0 : q = Int32.ofNat 0
    · refine ⟨Int32.ofNat ((hd + (i + 1)) % cap), Int32.ofNat k, l', ?_⟩
      rw [if_pos c0]
      have z : q.toInt = 0 := by rw [c0]; decide
      rw [if_pos (by omega), z]
      rw [show i + (0 : Int).toNat = i from rfl, List.getElem?_eq_getElem hq]
      rfl
    · rw [if_neg c0]
      dsimp only [xlet]
      have qn : q.toInt ≠ 0 := fun z => c0 (by rw [← Int32.toInt_inj, z]; decide)
      have qlo := Int32.le_toInt q
      have qhi := Int32.toInt_lt q
      have m1 : (-1 : Int32).toInt = -1 := by decide
      obtain ⟨c, r, l2, e3⟩ := ih (i + 1) fu (q + (-1 : Int32)) l' (by omega) (by omega)
      refine ⟨c, r, l2, ?_⟩
      rw [e3]
      by_cases c2 : q.toInt = -2147483648
      · have qe : q = -2147483648 := by rw [← Int32.toInt_inj, c2]; decide
        have qd : (q + (-1 : Int32)).toInt = 2147483647 := by rw [qe]; decide
        rw [qd, if_neg (by omega), if_neg (by omega)]
      · have qd : (q + (-1 : Int32)).toInt = q.toInt - 1 := by
          rw [Int32.toInt_add, m1, Int.bmod_eq_of_le] <;> omega
        rw [qd]
        by_cases c3 : 0 ≤ q.toInt ∧ q.toInt < ((k + 1 : Nat) : Int)
        · rw [if_pos c3, if_pos (by omega), show i + 1 + (q.toInt - 1).toNat = i + q.toInt.toNat by omega]
        · rw [if_neg c3, if_neg (by omega)]
variable {x al ae pl sd : Nat} {E : Nat → Nat → Nat} {P FE : Nat → Nat} {t : Nat}
/-- the k-th latest sighting -/
theorem k_sightAt (W : kW h x sd al ae pl E P FE N) (ht : t < nn (N 0)) (hb : xbd n h) (q : Int32) : ∃ Q h', kSg h Q N t ∧ fX1_sightingAt x (Int32.ofNat t) q Γ h n = some (.inl (if 0 ≤ q.toInt ∧ q.toInt < Q.length then Q[q.toInt.toNat]? else none), h', 1, 4) ∧ hsub h h' ∧ xbd (n + 1) h' := by
  have H := kw_hd W ht
  obtain ⟨Q, hd, hq⟩ := H.2.2.2.2.2.2.2.2.2.2.2.2.2.2
  obtain ⟨hdd, cap, hc⟩ := hd.dc
  have h20 := hq.2.1
  have hh := hc.2.2.2.2.2.1
  have e1 := kd_iter (Γ := Γ) hc hb
  obtain ⟨c, r, l, e2⟩ := k_sightAt_p15 (Γ := Γ) (n := n + 1) hc hq (hb n (Nat.le_refl _)) Q.length 0 xFU q (-Int32.ofNat 1) (by omega) (by unfold xFU; omega)
  rw [Nat.add_zero, Nat.mod_eq_of_lt hh] at e2
  refine ⟨Q, kIr h n (E t 5) c r l, hq, ?_, ir_sub (hb n (Nat.le_refl _)), xbd_up1 hb⟩
  unfold fX1_sightingAt
  rw [x_b1 ((kw_x W).trans (k_herd1 W ht)), x_b1 (kh_7 H), x_bc e1, e2]
  simp only [Nat.zero_add]
  rfl
theorem k_sightAt0 (W : kW h x sd al ae pl E P FE N) {p q : Int32} (hp : ¬ vS N p) : fX1_sightingAt x p q Γ h n = some (.inr n, kNx h n 8, 1, 6) := by
  unfold fX1_sightingAt
  rw [x_bx ((kw_x W).trans (k_herd0 W hp))]
end KJ
