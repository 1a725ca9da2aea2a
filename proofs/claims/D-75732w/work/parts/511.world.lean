/-! part 511: the component: a herd, the present state -/
/-- an open ledger -/
def kLg (h : xH) (l : Nat) (N : Nat → Int32) (s : Nat) : Prop := yW h 22 l ∧ yi h 22 0 l = N (zI s 7) ∧ yi h 22 1 l = N (zI s 8) ∧ yi h 22 2 l = N (zI s 9) ∧ yi h 22 3 l = N (zI s 10) ∧ yi h 22 4 l = N (zI s 11) ∧ yi h 22 6 l = N (zI s 5)
/-- a deque d with the row e holds Q -/
def kDq (h : xH) (d e : Nat) (Q : List Nat) : Prop := yW h 23 d ∧ yr h 23 0 d = some e ∧ yB h 5 e ∧ ∃ hd cap, yln h e = cap ∧ (cap = 17 ∨ cap = 36) ∧ hd < cap ∧ Q.length < cap ∧ yi h 23 1 d = Int32.ofNat hd ∧ yi h 23 2 d = Int32.ofNat ((hd + Q.length) % cap) ∧ ∀ i, i < cap → ylr h 5 e ((hd + i) % cap) = Q[i]?
/-- sightings, the latest one first -/
def kSg (h : xH) (Q : List Nat) (N : Nat → Int32) (s : Nat) : Prop := N (zI s 12) = Int32.ofNat Q.length ∧ Q.length ≤ 20 ∧ ∀ i (hi : i < Q.length), yO h 37 Q[i] ∧ ∀ w, w < 4 → yi h 37 w Q[i] = N (zI s (52 + 4 * i + w))
/-- a herd: Y 0 itself, 1 its survival row, 2 its stock, 3 the cohorts, 4 the open ledger, 5 the deque, 6 its row -/
def kHd (h : xH) (Y : Nat → Nat) (p : Nat) (N : Nat → Int32) (s : Nat) : Prop :=
  yW h 19 (Y 0) ∧ yr h 19 0 (Y 0) = some p ∧ yr h 19 1 (Y 0) = some (Y 1) ∧ yr h 19 2 (Y 0) = some (Y 2) ∧ yi h 19 3 (Y 0) = N (zI s 3) ∧ yi h 19 4 (Y 0) = N (zI s 4) ∧ yi h 19 5 (Y 0) = N (zI s 6) ∧ yr h 19 6 (Y 0) = some (Y 4) ∧ yr h 19 7 (Y 0) = some (Y 5) ∧
  (yB h 1 (Y 1) ∧ yln h (Y 1) = 13 ∧ ∀ j, j ≤ nn (N (zI s 1)) → yli h 1 (Y 1) j = N (zI s (13 + j))) ∧
  kSt h (Y 2) (Y 3) p ∧ (∀ j, j < 13 → yli h 1 (Y 3) j = N (zI s (39 + j))) ∧ (∀ j, j < 13 → nn (N (zI s 1)) < j → N (zI s (39 + j)) = Int32.ofNat 0) ∧ kLg h (Y 4) N s ∧ ∃ Q, kDq h (Y 5) (Y 6) Q ∧ kSg h Q N s
/-- a species p (fecundity fe) in the state N -/
def kSpN (h : xH) (p fe : Nat) (N : Nat → Int32) (s : Nat) : Prop := kSp h p fe (nn (N (zI s 1))) (nn (N (zI s 2))) ∧ ∀ j, j < 13 → yli h 1 fe j = N (zI s (26 + j))
/-- a state st: its list al (row ae) of herds E, its plans' list pl -/
def kSta (h : xH) (st al ae pl : Nat) (E : Nat → Nat → Nat) (P : Nat → Nat) (N : Nat → Int32) : Prop :=
  yW h 1 st ∧ yr h 1 0 st = some al ∧ yr h 1 1 st = some pl ∧ yi h 1 2 st = N 1 ∧ yi h 1 3 st = N 2 ∧ yW h 2 al ∧ yr h 2 1 al = some ae ∧ yB h 5 ae ∧ yln h ae = 4 ∧ yi h 2 2 al = N 0 ∧ (∀ t, t < nn (N 0) → ylr h 5 ae t = some (E t 0)) ∧ ∀ t, t < nn (N 0) → kHd h (E t) (P t) N t
/-- the present state of the system x -/
def kW (h : xH) (x st al ae pl : Nat) (E : Nat → Nat → Nat) (P FE : Nat → Nat) (N : Nat → Int32) : Prop :=
  yW h 0 x ∧ yr h 0 4 x = some st ∧ okN N ∧ kSta h st al ae pl E P N ∧ ∀ t, t < nn (N 0) → kSpN h (P t) (FE t) N t
theorem b2i_1 : ¬ Int32.ofNat 1 = Int32.ofNat 0 := by decide
section KW
variable {Γ : Nat → Option Nat} {h : xH} {n : Nat}
theorem k_inRange (v lo hi : Int32) : fX1_inRange v lo hi Γ h n = some (.inl (b2i (decide (lo ≤ v ∧ v ≤ hi))), h, 0, 0) := by
  unfold fX1_inRange
  by_cases c1 : v < lo
  · have : ¬ (lo ≤ v ∧ v ≤ hi) := fun q => absurd q.1 (Int32.not_le.mpr c1)
    simp only [if_pos c1, xpure, decide_eq_false this, b2i_f, i_ofNat]
  · by_cases c2 : hi < v
    · have : ¬ (lo ≤ v ∧ v ≤ hi) := fun q => absurd q.2 (Int32.not_le.mpr c2)
      simp only [if_neg c1, if_pos c2, xpure, decide_eq_false this, b2i_f, i_ofNat]
    · have : lo ≤ v ∧ v ≤ hi := ⟨Int32.not_lt.mp c1, Int32.not_lt.mp c2⟩
      simp only [if_neg c1, if_neg c2, xpure, decide_eq_true this, b2i_t, i_ofNat]
/-- a new object without fields (an exception) -/
def kNx (h : xH) (n ci : Nat) : xH := xupd h n (true, .inr (ci, []))
theorem kNx_O {ci : Nat} (hk : ykn ci = []) : yO (kNx h n ci) ci n := ⟨true, by unfold yhd kNx; rw [up_self]; show some (true, Sum.inr (ci, [])) = _; rw [hk]⟩
theorem k_checkIndex1 {i c : Nat} (hi : i < c) (hc : c < 2147483648) : fX1_checkIndex (Int32.ofNat i) (Int32.ofNat c) Γ h n = some (.inl (), h, 0, 0) := by
  have e : decide (Int32.ofNat 0 ≤ Int32.ofNat i ∧ Int32.ofNat i ≤ Int32.ofNat (c - 1)) = true := by
    exact decide_eq_true ⟨(i_le (by omega) (by omega)).mpr (by omega), (i_le (by omega) (by omega)).mpr (by omega)⟩
  have s1 : Int32.ofNat c - Int32.ofNat 1 = Int32.ofNat (c - 1) := i_sub (by omega)
  simp only [fX1_checkIndex, xbind, i_ofNat, s1, k_inRange, e, b2i_t, if_neg b2i_1, xpure, Nat.add_zero]
theorem k_checkIndex0 {i : Int32} {c : Nat} (hc : c < 2147483648) (hi : ¬ (0 ≤ i.toInt ∧ i.toInt < c)) : fX1_checkIndex i (Int32.ofNat c) Γ h n = some (.inr n, kNx h n 8, 1, 6) := by
  have s1 : (Int32.ofNat c - Int32.ofNat 1).toInt = (c : Int) - 1 := by
    rcases c with _ | c
    · decide
    · rw [i_sub (by omega), i_toInt (by omega)]
      omega
  have e : decide (Int32.ofNat 0 ≤ i ∧ i ≤ Int32.ofNat c - Int32.ofNat 1) = false := by
    apply decide_eq_false
    rw [Int32.le_iff_toInt_le, Int32.le_iff_toInt_le, s1]
    have : (Int32.ofNat 0).toInt = 0 := by decide
    omega
  have ho : xobj (kNx h n 8) (some n) = some (n, 8, []) := by unfold xobj kNx; simp only [up_self]
  have ht : xthrow (α := Unit) (some n) Γ (kNx h n 8) (n + 1) = some (.inr n, kNx h n 8, 0, 0) := by unfold xthrow; rw [ho]
  simp only [fX1_checkIndex, xbind, i_ofNat, k_inRange, e, b2i_f, if_true, xmk, Nat.add_zero, Nat.zero_add]
  rw [show xupd h n (true, .inr (8, [])) = kNx h n 8 from rfl, ht]
variable {x st al ae pl : Nat} {E : Nat → Nat → Nat} {P FE : Nat → Nat} {N : Nat → Int32}
theorem kw_x (W : kW h x st al ae pl E P FE N) {α : Type} {g : Nat → xM α} : xsel (some x) [(0, g)] Γ h n = g x Γ h n := e_sel (yO_of _ _ _ W.1)
theorem kw_now (W : kW h x st al ae pl E P FE N) : xgR 0 4 (some x) Γ h n = some (.inl (some st), h, 0, 0) := by rw [e_gR (yO_of _ _ _ W.1) kn0_4, W.2.1]
theorem kw_al (W : kW h x st al ae pl E P FE N) : xgR 1 0 (some st) Γ h n = some (.inl (some al), h, 0, 0) := by
  have S := W.2.2.2.1
  rw [e_gR (yO_of _ _ _ S.1) kn1_0, S.2.1]
theorem kw_pl (W : kW h x st al ae pl E P FE N) : xgR 1 1 (some st) Γ h n = some (.inl (some pl), h, 0, 0) := by
  have S := W.2.2.2.1
  rw [e_gR (yO_of _ _ _ S.1) kn1_1, S.2.2.1]
theorem kw_year (W : kW h x st al ae pl E P FE N) : xgI 1 2 (some st) Γ h n = some (.inl (N 1), h, 0, 0) := by
  have S := W.2.2.2.1
  rw [e_gI (yO_of _ _ _ S.1) kn1_2, S.2.2.2.1]
theorem kw_closed (W : kW h x st al ae pl E P FE N) : xgI 1 3 (some st) Γ h n = some (.inl (N 2), h, 0, 0) := by
  have S := W.2.2.2.1
  rw [e_gI (yO_of _ _ _ S.1) kn1_3, S.2.2.2.2.1]
theorem kw_size (W : kW h x st al ae pl E P FE N) : xsel (some al) [(2, fun z => fJ2_size z)] Γ h n = some (.inl (N 0), h, 0, 0) := by
  have S := W.2.2.2.1
  have s6 := yO_of _ _ _ S.2.2.2.2.2.1
  simp only [e_sel s6, fJ2_size, xbind, xpure, e_gI s6 kn2_2, S.2.2.2.2.2.2.2.2.2.1, Nat.add_zero]
theorem kw_get (W : kW h x st al ae pl E P FE N) {t : Nat} (ht : t < nn (N 0)) : xsel (some al) [(2, fun z => fJ2_get z (Int32.ofNat t))] Γ h n = some (.inl (some (E t 0)), h, 0, 0) := by
  have S := W.2.2.2.1
  have n0 := W.2.2.1.1
  have n4 := W.2.2.1.2.1
  unfold nN at n0
  obtain ⟨-, -, -, -, -, s6, s7, s8, s9, s10, s11, -⟩ := S
  have s6 := yO_of _ _ _ s6
  rw [n0] at s10
  have c1 : ¬ Int32.ofNat t < Int32.ofNat 0 := by rw [i_lt (by omega) (by decide)]; omega
  have c2 : Int32.ofNat t < Int32.ofNat (nn (N 0)) := by rw [i_lt (by omega) (by omega)]; omega
  have e1 : xldR (some ae) (Int32.ofNat t) Γ h n = some (.inl (some (E t 0)), h, 0, 0) := by
    rw [e_ldR (yA_of _ _ _ s8) ytk_5 (by omega) (yin_of (by omega) (by omega)), i_nat (by omega), s11 t ht]
  simp only [e_sel s6, fJ2_get, fJ25_checkIndex, fJ14_checkIndex, fJ2_elementData, i_ofNat, xbind, xpure, e_gI s6 kn2_2, e_gR s6 kn2_1, s7, s10, if_neg c1, if_pos c2, e1, Nat.add_zero]
theorem kw_hd (W : kW h x st al ae pl E P FE N) {t : Nat} (ht : t < nn (N 0)) : kHd h (E t) (P t) N t := W.2.2.2.1.2.2.2.2.2.2.2.2.2.2.2 t ht
theorem kw_cst (W : kW h x st al ae pl E P FE N) {t : Nat} (ht : t < nn (N 0)) : xcst (fun c => c == 19) (some (E t 0)) Γ h n = some (.inl (), h, 0, 0) := by
  obtain ⟨w, fs, hc, hm, ho⟩ := yobj (yO_of _ _ _ (kw_hd W ht).1)
  unfold xcst xokR
  simp only [ho]
  rfl
theorem k_herd1 (W : kW h x st al ae pl E P FE N) {t : Nat} (ht : t < nn (N 0)) : fX1_herd x (Int32.ofNat t) Γ h n = some (.inl (some (E t 0)), h, 0, 0) := by
  have n0 := W.2.2.1.1
  have n4 := W.2.2.1.2.1
  unfold nN at n0
  have e1 := k_checkIndex1 (Γ := Γ) (h := h) (n := n) ht (by omega)
  rw [← n0] at e1
  simp only [fX1_herd, xbind, xpure, kw_now W, kw_al W, kw_size W, e1, kw_get W ht, kw_cst W ht, Nat.add_zero]
theorem k_herd0 (W : kW h x st al ae pl E P FE N) {p : Int32} (hp : ¬ vS N p) : fX1_herd x p Γ h n = some (.inr n, kNx h n 8, 1, 6) := by
  have n0 := W.2.2.1.1
  have n4 := W.2.2.1.2.1
  unfold nN at n0
  have e1 := k_checkIndex0 (Γ := Γ) (h := h) (n := n) (i := p) (c := nn (N 0)) (by omega) hp
  rw [← n0] at e1
  simp only [fX1_herd, xbind, xpure, kw_now W, kw_al W, kw_size W, e1, Nat.zero_add, Nat.add_zero]
/-! the parts of a herd -/
variable {Y : Nat → Nat} {p fe s o a : Nat}
theorem kh_sel (H : kHd h Y p N s) {α : Type} {g : Nat → xM α} : xsel (some (Y 0)) [(19, g)] Γ h n = g (Y 0) Γ h n := e_sel (yO_of _ _ _ H.1)
theorem kh_0 (H : kHd h Y p N s) : xgR 19 0 (some (Y 0)) Γ h n = some (.inl (some p), h, 0, 0) := by rw [e_gR (yO_of _ _ _ H.1) kn19_0, H.2.1]
theorem kh_1 (H : kHd h Y p N s) : xgR 19 1 (some (Y 0)) Γ h n = some (.inl (some (Y 1)), h, 0, 0) := by rw [e_gR (yO_of _ _ _ H.1) kn19_1, H.2.2.1]
theorem kh_2 (H : kHd h Y p N s) : xgR 19 2 (some (Y 0)) Γ h n = some (.inl (some (Y 2)), h, 0, 0) := by rw [e_gR (yO_of _ _ _ H.1) kn19_2, H.2.2.2.1]
theorem kh_3 (H : kHd h Y p N s) : xgI 19 3 (some (Y 0)) Γ h n = some (.inl (N (zI s 3)), h, 0, 0) := by rw [e_gI (yO_of _ _ _ H.1) kn19_3, H.2.2.2.2.1]
theorem kh_4 (H : kHd h Y p N s) : xgI 19 4 (some (Y 0)) Γ h n = some (.inl (N (zI s 4)), h, 0, 0) := by rw [e_gI (yO_of _ _ _ H.1) kn19_4, H.2.2.2.2.2.1]
theorem kh_5 (H : kHd h Y p N s) : xgI 19 5 (some (Y 0)) Γ h n = some (.inl (N (zI s 6)), h, 0, 0) := by rw [e_gI (yO_of _ _ _ H.1) kn19_5, H.2.2.2.2.2.2.1]
theorem kh_6 (H : kHd h Y p N s) : xgR 19 6 (some (Y 0)) Γ h n = some (.inl (some (Y 4)), h, 0, 0) := by rw [e_gR (yO_of _ _ _ H.1) kn19_6, H.2.2.2.2.2.2.2.1]
theorem kh_7 (H : kHd h Y p N s) : xgR 19 7 (some (Y 0)) Γ h n = some (.inl (some (Y 5)), h, 0, 0) := by rw [e_gR (yO_of _ _ _ H.1) kn19_7, H.2.2.2.2.2.2.2.2.1]
theorem kh_sv (H : kHd h Y p N s) {j : Nat} (hj : j ≤ nn (N (zI s 1))) (h12 : nn (N (zI s 1)) ≤ 12) : xldI 1 (some (Y 1)) (Int32.ofNat j) Γ h n = some (.inl (N (zI s (13 + j))), h, 0, 0) := by
  obtain ⟨a, b, c⟩ := H.2.2.2.2.2.2.2.2.2.1
  rw [e_ldI (yA_of _ _ _ a) ytk_1 (yin_of (by omega) (by omega)), i_nat (by omega), c j hj]
theorem kHd.stk (H : kHd h Y p N s) : kSt h (Y 2) (Y 3) p := H.2.2.2.2.2.2.2.2.2.2.1
theorem kh_co (H : kHd h Y p N s) : xgR 24 1 (some (Y 2)) Γ h n = some (.inl (some (Y 3)), h, 0, 0) := by rw [e_gR (yO_of _ _ _ H.stk.1) kn24_1, H.stk.2.2.1]
theorem kh_coh (H : kHd h Y p N s) {j : Nat} (hj : j < 13) : xldI 1 (some (Y 3)) (Int32.ofNat j) Γ h n = some (.inl (N (zI s (39 + j))), h, 0, 0) := by
  rw [e_ldI (yA_of _ _ _ H.stk.2.2.2.1) ytk_1 (yin_of (by rw [H.stk.2.2.2.2]; exact hj) (by omega)), i_nat (by omega), H.2.2.2.2.2.2.2.2.2.2.2.1 j hj]
theorem kHd.led (H : kHd h Y p N s) : kLg h (Y 4) N s := H.2.2.2.2.2.2.2.2.2.2.2.2.2.1
theorem kh_l0 (H : kHd h Y p N s) : xgI 22 0 (some (Y 4)) Γ h n = some (.inl (N (zI s 7)), h, 0, 0) := by rw [e_gI (yO_of _ _ _ H.led.1) kn22_0, H.led.2.1]
theorem kh_l1 (H : kHd h Y p N s) : xgI 22 1 (some (Y 4)) Γ h n = some (.inl (N (zI s 8)), h, 0, 0) := by rw [e_gI (yO_of _ _ _ H.led.1) kn22_1, H.led.2.2.1]
theorem kh_l2 (H : kHd h Y p N s) : xgI 22 2 (some (Y 4)) Γ h n = some (.inl (N (zI s 9)), h, 0, 0) := by rw [e_gI (yO_of _ _ _ H.led.1) kn22_2, H.led.2.2.2.1]
theorem kh_l3 (H : kHd h Y p N s) : xgI 22 3 (some (Y 4)) Γ h n = some (.inl (N (zI s 10)), h, 0, 0) := by rw [e_gI (yO_of _ _ _ H.led.1) kn22_3, H.led.2.2.2.2.1]
theorem kh_l4 (H : kHd h Y p N s) : xgI 22 4 (some (Y 4)) Γ h n = some (.inl (N (zI s 11)), h, 0, 0) := by rw [e_gI (yO_of _ _ _ H.led.1) kn22_4, H.led.2.2.2.2.2.1]
theorem kh_l6 (H : kHd h Y p N s) : xgI 22 6 (some (Y 4)) Γ h n = some (.inl (N (zI s 5)), h, 0, 0) := by rw [e_gI (yO_of _ _ _ H.led.1) kn22_6, H.led.2.2.2.2.2.2]
theorem kp_1 (hp : kSp h p fe o a) : xgI 20 1 (some p) Γ h n = some (.inl (Int32.ofNat o), h, 0, 0) := by rw [e_gI hp.1 kn20_1, hp.2.1]
theorem kp_2 (hp : kSp h p fe o a) : xgR 20 2 (some p) Γ h n = some (.inl (some fe), h, 0, 0) := by rw [e_gR hp.1 kn20_2, hp.2.2.2.1]
theorem kp_3 (hp : kSp h p fe o a) : xgI 20 3 (some p) Γ h n = some (.inl (Int32.ofNat a), h, 0, 0) := by rw [e_gI hp.1 kn20_3, hp.2.2.1]
theorem kp_fe (hp : kSpN h p fe N s) {j : Nat} (hj : j < 13) : xldI 1 (some fe) (Int32.ofNat j) Γ h n = some (.inl (N (zI s (26 + j))), h, 0, 0) := by
  rw [e_ldI hp.1.2.2.2.2.1 ytk_1 (yin_of (by rw [hp.1.2.2.2.2.2.1]; exact hj) (by omega)), i_nat (by omega), hp.2 j hj]
theorem isum_congr {f g : Nat → Int32} : ∀ (k x : Nat), (∀ j, x ≤ j → j < x + k → f j = g j) → isum f x k = isum g x k := by
  intro k
  induction k with
  | zero => intro x _; rfl
  | succ k ih =>
    intro x hf
    rw [isum, isum, hf x (by omega) (by omega), ih (x + 1) (fun j a b => hf j (by omega) (by omega))]
theorem isum_zero {f : Nat → Int32} : ∀ (k x : Nat), (∀ j, x ≤ j → j < x + k → f j = Int32.ofNat 0) → isum f x k = Int32.ofNat 0 := by
  intro k
  induction k with
  | zero => intro x _; rfl
  | succ k ih =>
    intro x hf
    rw [isum, hf x (by omega) (by omega), ih (x + 1) (fun j a b => hf j (by omega) (by omega))]
    rfl
theorem isum_app {f : Nat → Int32} : ∀ (k l x : Nat), isum f x (k + l) = isum f x k + isum f (x + k) l := by
  intro k
  induction k with
  | zero => intro l x; rw [Nat.zero_add, isum, i_0add]; rfl
  | succ k ih =>
    intro l x
    rw [show k + 1 + l = (k + l) + 1 by omega, isum, isum, ih, Int32.add_assoc, show x + 1 + k = x + (k + 1) by omega]
/-- a herd's total -/
theorem kh_tot (H : kHd h Y p N s) (h12 : nn (N (zI s 1)) ≤ 12) : isum (yli h 1 (Y 3)) 0 13 = pTot N s (nn (N (zI s 1))) := by
  have a := H.2.2.2.2.2.2.2.2.2.2.2.1
  have b := H.2.2.2.2.2.2.2.2.2.2.2.2.1
  rw [show 13 = (nn (N (zI s 1)) + 1) + (12 - nn (N (zI s 1))) by omega, isum_app, isum_congr (f := yli h 1 (Y 3)) (g := fun x => N (zI s (39 + x))) _ _ (fun j _ hj => a j (by omega)), isum_zero (12 - nn (N (zI s 1))) _ (fun j h1 h2 => by rw [a j (by omega)]; exact b j (by omega) (by omega)), i_add0]
  rfl
theorem kh_total (H : kHd h Y p N s) (h12 : nn (N (zI s 1)) ≤ 12) : xsel (some (Y 2)) [(24, fun z => fX10_total z)] Γ h n = some (.inl (pTot N s (nn (N (zI s 1)))), h, 0, 0) := by
  rw [e_sel (yO_of _ _ _ H.stk.1), k_total H.stk, kh_tot H h12]
theorem kh_adults (H : kHd h Y p N s) (hp : kSpN h p fe N s) : xsel (some (Y 2)) [(24, fun z => fX10_adults z)] Γ h n = some (.inl (pAdl N s (nn (N (zI s 2))) (nn (N (zI s 1)))), h, 0, 0) := by
  have a := H.2.2.2.2.2.2.2.2.2.2.2.1
  have h12 := hp.1.2.2.2.2.2.2.1
  have ha := hp.1.2.2.2.2.2.2.2
  rw [e_sel (yO_of _ _ _ H.stk.1), k_adults H.stk hp.1, isum_congr (f := yli h 1 (Y 3)) (g := fun x => N (zI s (39 + x))) _ _ (fun j _ hj => a j (by omega))]
  rfl
end KW
