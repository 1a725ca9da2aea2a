/-! part 532: the parts of a ledger -/
/-- a new row of seven references -/
def kRo (h : xH) (a : Nat) (f : oN) : xH := xupd h a (true, .inl (6, 7, .inr (.inr (.inr (.inr f)))))
/-- the seven constants: one that reads each part -/
def kLm (Γ : Nat → Option Nat) (h : xH) (la : Nat → Nat) : Prop := ∀ w, w < 7 → Γ (203 + w) = some (la w) ∧ yO h (1003 + w) (la w)
abbrev kSel (r z : Option Nat) : xM Int32 := xsel r [(1003, fun a => fL_3 a z), (1004, fun a => fL_4 a z), (1005, fun a => fL_5 a z), (1006, fun a => fL_6 a z), (1007, fun a => fL_7 a z), (1008, fun a => fL_8 a z), (1009, fun a => fL_9 a z)]
section KPT
variable {Γ : Nat → Option Nat} {h : xH} {n a k : Nat} {f : oN} {la : Nat → Nat}
theorem kLm.mono {g : xH} (H : kLm Γ h la) (hs : hsub h g) : kLm Γ g la := fun w hw => ⟨(H w hw).1, hO (H w hw).2 hs⟩
theorem ro_st {w : Nat} {ok : Nat → Bool} {v : Option Nat} (hw : w < 7) (hv : xokR (kRo h a f) ok v = true) : xstR 6 ok (some a) (Int32.ofNat w) v Γ (kRo h a f) n = some (.inl (), kRo h a (va_up f w v), 0, 0) := by
  have e0 : kRo h a f a = some (true, .inl (6, 7, .inr (.inr (.inr (.inr f))))) := up_self
  have c : ¬ (Int32.ofNat w < 0 ∨ 7 ≤ (Int32.ofNat w).toNatClampNeg) := by
    rw [i_nat (by omega)]
    have i0 : (0 : Int32) = Int32.ofNat 0 := rfl
    rw [i0, Int32.lt_iff_toInt_lt, i_toInt (by omega), i_toInt (by omega)]
    omega
  unfold xstR
  simp only [e0]
  rw [if_pos ⟨trivial, c, hv⟩, i_nat (by omega)]
  unfold kRo
  rw [up_up]
theorem ro_ld {w : Nat} (hw : w < 7) : xldR (some a) (Int32.ofNat w) Γ (kRo h a f) n = some (.inl (f w), kRo h a f, 0, 0) := by
  have e0 : xarr (kRo h a f) (some a) = some (a, 6, 7, .inr (.inr (.inr (.inr f)))) := by unfold xarr kRo; simp only [up_self]
  have c : ¬ (Int32.ofNat w < 0 ∨ 7 ≤ (Int32.ofNat w).toNatClampNeg) := by
    rw [i_nat (by omega)]
    have i0 : (0 : Int32) = Int32.ofNat 0 := rfl
    rw [i0, Int32.lt_iff_toInt_lt, i_toInt (by omega), i_toInt (by omega)]
    omega
  unfold xldR
  rw [e0]
  simp only
  rw [if_pos ⟨c, by omega⟩, i_nat (by omega)]
theorem k_okR {c : Nat} {ok : Nat → Bool} (H : yO h c a) (hc : ok c = true) : xokR h ok (some a) = true := by
  obtain ⟨w, fs, hc', hm, ho⟩ := yobj H
  unfold xokR
  rw [ho]
  exact hc
theorem k_prt {w : Nat} (H : kLm Γ h la) (hb : xbd n h) (hw : w < 7) : ∃ f, fX1_part (Int32.ofNat w) Γ h n = some (.inl (some (la w)), kRo h n f, 1, 7) := by
  have i7 : (7 : Int32) = Int32.ofNat 7 := rfl
  have e0 : xnewA 6 (fun N => (N, .inr (.inr (.inr (.inr (fun _ => none)))))) (7 : Int32) Γ h n = some (.inl n, kRo h n (fun _ => none), 1, 7) := by
    unfold xnewA
    rw [if_pos (by decide)]
    rfl
  have sub : ∀ f, hsub h (kRo h n f) := fun f => hsub_up (hb n (Nat.le_refl _))
  have cn : ∀ w f, w < 7 → xcon (203 + w) Γ (kRo h n f) (n + 1) = some (.inl (some (la w)), kRo h n f, 0, 0) := fun w f hw => by unfold xcon; rw [(H w hw).1]
  have st : ∀ w f (i : Int32), w < 7 → i = Int32.ofNat w → xstR 6 xokPart (some n) i (some (la w)) Γ (kRo h n f) (n + 1) = some (.inl (), kRo h n (va_up f w (some (la w))), 0, 0) := by
    rintro w f _ hw rfl
    refine ro_st hw (k_okR (hO (H w hw).2 (sub f)) ?_)
    rcases (show w = 0 ∨ w = 1 ∨ w = 2 ∨ w = 3 ∨ w = 4 ∨ w = 5 ∨ w = 6 by omega) with rfl | rfl | rfl | rfl | rfl | rfl | rfl <;> rfl
  let f0 : oN := fun _ => none
  let f1 := va_up f0 0 (some (la 0))
  let f2 := va_up f1 1 (some (la 1))
  let f3 := va_up f2 2 (some (la 2))
  let f4 := va_up f3 3 (some (la 3))
  let f5 := va_up f4 4 (some (la 4))
  let f6 := va_up f5 5 (some (la 5))
  let f7 := va_up f6 6 (some (la 6))
  have hf : f7 w = some (la w) := by
    rcases (show w = 0 ∨ w = 1 ∨ w = 2 ∨ w = 3 ∨ w = 4 ∨ w = 5 ∨ w = 6 by omega) with rfl | rfl | rfl | rfl | rfl | rfl | rfl <;> rfl
  refine ⟨f7, ?_⟩
  unfold fX1_part
  rw [x_bc e0, x_b1 (cn 0 f0 (by omega)), x_b1 (st 0 f0 0 (by omega) rfl), x_b1 (cn 1 f1 (by omega)), x_b1 (st 1 f1 1 (by omega) rfl), x_b1 (cn 2 f2 (by omega)), x_b1 (st 2 f2 2 (by omega) rfl), x_b1 (cn 3 f3 (by omega)), x_b1 (st 3 f3 3 (by omega) rfl), x_b1 (cn 4 f4 (by omega)), x_b1 (st 4 f4 4 (by omega) rfl), x_b1 (cn 5 f5 (by omega)), x_b1 (st 5 f5 5 (by omega) rfl), x_b1 (cn 6 f6 (by omega)), x_b1 (st 6 f6 6 (by omega) rfl), x_b1 (ro_ld (f := f7) hw), hf]
  rfl
theorem k_sel7 {w v : Nat} (H : kLm Γ h la) (hw : w < 7) (hv : yO h 22 v) : kSel (some (la w)) (some v) Γ h n = some (.inl (yi h 22 w v), h, 0, 0) := by
  have L := (H w hw).2
  obtain ⟨q, fs, hc', hm, ho⟩ := yobj L
  unfold kSel xsel
  rw [ho]
  rcases (show w = 0 ∨ w = 1 ∨ w = 2 ∨ w = 3 ∨ w = 4 ∨ w = 5 ∨ w = 6 by omega) with rfl | rfl | rfl | rfl | rfl | rfl | rfl
  · show fL_3 _ _ Γ h n = _
    unfold fL_3 fX1_lambda_part_3
    rw [x_b1 (show (xbind (xgI 22 0 (some v)) fun v1 => xpure v1) Γ h n = some (.inl (yi h 22 0 v), h, 0, 0) by rw [x_b1 (e_gI hv kn22_0)]; rfl)]; rfl
  · show fL_4 _ _ Γ h n = _
    unfold fL_4 fX1_lambda_part_4
    rw [x_b1 (show (xbind (xgI 22 1 (some v)) fun v1 => xpure v1) Γ h n = some (.inl (yi h 22 1 v), h, 0, 0) by rw [x_b1 (e_gI hv kn22_1)]; rfl)]; rfl
  · show fL_5 _ _ Γ h n = _
    unfold fL_5 fX1_lambda_part_5
    rw [x_b1 (show (xbind (xgI 22 2 (some v)) fun v1 => xpure v1) Γ h n = some (.inl (yi h 22 2 v), h, 0, 0) by rw [x_b1 (e_gI hv kn22_2)]; rfl)]; rfl
  · show fL_6 _ _ Γ h n = _
    unfold fL_6 fX1_lambda_part_6
    rw [x_b1 (show (xbind (xgI 22 3 (some v)) fun v1 => xpure v1) Γ h n = some (.inl (yi h 22 3 v), h, 0, 0) by rw [x_b1 (e_gI hv kn22_3)]; rfl)]; rfl
  · show fL_7 _ _ Γ h n = _
    unfold fL_7 fX1_lambda_part_7
    rw [x_b1 (show (xbind (xgI 22 4 (some v)) fun v1 => xpure v1) Γ h n = some (.inl (yi h 22 4 v), h, 0, 0) by rw [x_b1 (e_gI hv kn22_4)]; rfl)]; rfl
  · show fL_8 _ _ Γ h n = _
    unfold fL_8 fX1_lambda_part_8
    rw [x_b1 (show (xbind (xgI 22 5 (some v)) fun v1 => xpure v1) Γ h n = some (.inl (yi h 22 5 v), h, 0, 0) by rw [x_b1 (e_gI hv kn22_5)]; rfl)]; rfl
  · show fL_9 _ _ Γ h n = _
    unfold fL_9 fX1_lambda_part_9
    rw [x_b1 (show (xbind (xgI 22 6 (some v)) fun v1 => xpure v1) Γ h n = some (.inl (yi h 22 6 v), h, 0, 0) by rw [x_b1 (e_gI hv kn22_6)]; rfl)]; rfl
end KPT
