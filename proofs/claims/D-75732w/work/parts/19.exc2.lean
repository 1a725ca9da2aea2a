/-! part 19: the exceptions that ReserveLedger makes, several receivers under a handler, handlers' lists -/
abbrev xnms : List String := ["java/lang/RuntimeException", "java/lang/Exception"]
theorem xps0 {P : ExceptionTableEntry → Prop} : ∀ y ∈ tableOf [], P y := fun y h => by cases h
theorem xps1 {P : ExceptionTableEntry → Prop} {a b c d : Nat} {hs : List (Nat × Nat × Nat × Nat)} (h1 : P ⟨a, b, c, d⟩) (h2 : ∀ y ∈ tableOf hs, P y) : ∀ y ∈ tableOf ((a, b, c, d) :: hs), P y := by
  intro y hy
  rcases List.mem_cons.mp (show y ∈ (⟨a, b, c, d⟩ : ExceptionTableEntry) :: tableOf hs from hy) with h | h
  · rw [h]; exact h1
  · exact h2 y h
section XN19
variable {α β : Type} {x : xC} {emb : α → Option Value} {embb : β → Option Value} {own : String} {cc : ByteArray} {ret : Option FieldType} {pc : Nat} {lv lv' : List (Nat × Value)} {st st0 : List Value} {kk : β → xM α} {k2 : Nat → xM α}
theorem xI.alt2T {r : Option Nat} {ci : Nat} {f : Nat → xM β} {L : List (Nat × (Nat → xM β))} {Kp : Prop} (hK : Kp) (hK2 : ∀ q, xT x emb pc lv q (k2 q)) (K1 : Kp → (∀ q, xT x emb pc lv q (k2 q)) → xI x emb pc lv st0 (xtry (xsel r [(ci, f)]) kk k2)) (K2 : Kp → (∀ q, xT x emb pc lv q (k2 q)) → xI x emb pc lv st0 (xtry (xsel r L) kk k2)) : xI x emb pc lv st0 (xtry (xsel r ((ci, f) :: L)) kk k2) := by
  have K1 := K1 hK hK2
  have K2 := K2 hK hK2
  clear hK hK2
  obtain ⟨p, l, e, R, s, m, args, below, meth, c, D, s0, Γ, nL, b0⟩ := x
  intro h n o h' dc ds he
  have key : xsel r ((ci, f) :: L) Γ h n = xsel r [(ci, f)] Γ h n ∨ xsel r ((ci, f) :: L) Γ h n = xsel r L Γ h n := by
    unfold xsel
    cases ho : xobj h r with
    | none => exact Or.inl rfl
    | some z =>
      obtain ⟨a, c', fs⟩ := z
      by_cases hc : c' = ci
      · subst hc
        left
        simp [List.lookup]
      · have hc' : (c' == ci) = false := by simpa using hc
        right
        simp [List.lookup, hc']
  rcases key with key | key
  · exact K1 h n o h' dc ds (by unfold xtry at he ⊢; rw [← key]; exact he)
  · exact K2 h n o h' dc ds (by unfold xtry at he ⊢; rw [← key]; exact he)
end XN19
theorem xat_9 : ∀ w ∈ vx_at0 RX1 9 "java/lang/IndexOutOfBoundsException" xnms, w ∈ lw_tbl := by decide +kernel
theorem xag_9 : (vx_at0 RX1 9 "java/lang/IndexOutOfBoundsException" xnms).all xgw = true := by decide +kernel
theorem xao_9 (ik : Nat) (_ : Cond.classLink RX1 ik "java/lang/IndexOutOfBoundsException" ∈ lw_all) : ∀ w ∈ Cond.classLink RX1 ik "java/lang/IndexOutOfBoundsException" :: Cond.initialized "java/lang/IndexOutOfBoundsException" :: vx_at0 RX1 9 "java/lang/IndexOutOfBoundsException" xnms, vx_ot w = true := by
  intro w hw
  rcases List.mem_cons.mp hw with h | hw
  · rw [h]; rfl
  rcases List.mem_cons.mp hw with h | hw
  · rw [h]; rfl
  · have h : (vx_at0 RX1 9 "java/lang/IndexOutOfBoundsException" xnms).all vx_ot = true := by decide +kernel
    exact List.all_eq_true.mp h w hw
theorem xat_15 : ∀ w ∈ vx_at0 RX1 15 "java/lang/IllegalArgumentException" xnms, w ∈ lw_tbl := by decide +kernel
theorem xag_15 : (vx_at0 RX1 15 "java/lang/IllegalArgumentException" xnms).all xgw = true := by decide +kernel
theorem xao_15 (ik : Nat) (_ : Cond.classLink RX1 ik "java/lang/IllegalArgumentException" ∈ lw_all) : ∀ w ∈ Cond.classLink RX1 ik "java/lang/IllegalArgumentException" :: Cond.initialized "java/lang/IllegalArgumentException" :: vx_at0 RX1 15 "java/lang/IllegalArgumentException" xnms, vx_ot w = true := by
  intro w hw
  rcases List.mem_cons.mp hw with h | hw
  · rw [h]; rfl
  rcases List.mem_cons.mp hw with h | hw
  · rw [h]; rfl
  · have h : (vx_at0 RX1 15 "java/lang/IllegalArgumentException" xnms).all vx_ot = true := by decide +kernel
    exact List.all_eq_true.mp h w hw
theorem xat_18 : ∀ w ∈ vx_at0 RX1 18 "java/lang/IllegalStateException" xnms, w ∈ lw_tbl := by decide +kernel
theorem xag_18 : (vx_at0 RX1 18 "java/lang/IllegalStateException" xnms).all xgw = true := by decide +kernel
theorem xao_18 (ik : Nat) (_ : Cond.classLink RX1 ik "java/lang/IllegalStateException" ∈ lw_all) : ∀ w ∈ Cond.classLink RX1 ik "java/lang/IllegalStateException" :: Cond.initialized "java/lang/IllegalStateException" :: vx_at0 RX1 18 "java/lang/IllegalStateException" xnms, vx_ot w = true := by
  intro w hw
  rcases List.mem_cons.mp hw with h | hw
  · rw [h]; rfl
  rcases List.mem_cons.mp hw with h | hw
  · rw [h]; rfl
  · have h : (vx_at0 RX1 18 "java/lang/IllegalStateException" xnms).all vx_ot = true := by decide +kernel
    exact List.all_eq_true.mp h w hw
theorem xat_21 : ∀ w ∈ vx_at0 RX1 21 "java/util/NoSuchElementException" xnms, w ∈ lw_tbl := by decide +kernel
theorem xag_21 : (vx_at0 RX1 21 "java/util/NoSuchElementException" xnms).all xgw = true := by decide +kernel
theorem xao_21 (ik : Nat) (_ : Cond.classLink RX1 ik "java/util/NoSuchElementException" ∈ lw_all) : ∀ w ∈ Cond.classLink RX1 ik "java/util/NoSuchElementException" :: Cond.initialized "java/util/NoSuchElementException" :: vx_at0 RX1 21 "java/util/NoSuchElementException" xnms, vx_ot w = true := by
  intro w hw
  rcases List.mem_cons.mp hw with h | hw
  · rw [h]; rfl
  rcases List.mem_cons.mp hw with h | hw
  · rw [h]; rfl
  · have h : (vx_at0 RX1 21 "java/util/NoSuchElementException" xnms).all vx_ot = true := by decide +kernel
    exact List.all_eq_true.mp h w hw
