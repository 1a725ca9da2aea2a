/-! part 563: a herd is made -/
def hC0 (p n : Nat) (o : Nat) : List xAC := [(true, .inr (19, [.ref p, .ref (n + 1), .ref (n + 5), .int 0, .int 0, .int 0, .ref (n + 2), .ref (n + 3)])), (true, .inl (1, 13, .inl (fun j => if j < o then Int32.ofNat 500 else 0))), (true, .inr (22, [.int 0, .int 0, .int 0, .int 0, .int 0, .int 0, .int 0])), (true, .inr (23, [.ref (n + 4), .int 0, .int 0])), (true, .inl (5, 17, .inr (.inr (.inr (.inr (fun _ => none)))))), (true, .inr (24, [.ref p, .ref (n + 6), .int 0, .int 0])), (true, .inl (1, 13, .inl (fun _ => 0)))]
section HI
variable {Γ : Nat → Option Nat} {h : xH} {n p fe o a : Nat}
theorem k_hInit54 (hp : kSp h p fe o a) (pn : p < n) : ∀ (k x fu : Nat), x + k = o + 1 → k < fu → fX6_init_p54 fu n (some p) (Int32.ofNat x) Γ (xX h n (hC0 p n x)) (n + 7) = some (.inl (), xX h n (hC0 p n (o + 1)), 0, 0) := by
  have i1 : (1 : Int32) = Int32.ofNat 1 := rfl
  obtain ⟨s1, s2, s3, s4, s5, s6, s7, s8⟩ := hp
  have gp : ∀ L, xgI 20 1 (some p) Γ (xX h n L) (n + 7) = some (.inl (Int32.ofNat o), xX h n L, 0, 0) := fun L => by
    rw [e_gI ((yO_c (xX_old pn)).mpr s1) kn20_1, yi_c (xX_old pn), s2]
  intro k
  induction k with
  | zero =>
    intro x fu hx hf
    obtain ⟨fu, rfl⟩ : ∃ g, fu = g + 1 := ⟨fu - 1, by omega⟩
    rw [fX6_init_p54, x_b1 (gp _), if_pos (by rw [i_lt (by omega) (by omega)]; omega), show x = o + 1 by omega]
    rfl
  | succ k ih =>
    intro x fu hx hf
    obtain ⟨fu, rfl⟩ : ∃ g, fu = g + 1 := ⟨fu - 1, by omega⟩
    have g1 : xgR 19 1 (some n) Γ (xX h n (hC0 p n x)) (n + 7) = some (.inl (some (n + 1)), xX h n (hC0 p n x), 0, 0) := X_gR (i := 0) (v := some (n + 1)) rfl rfl
    have st : xstI 1 (some (n + 1)) (Int32.ofNat x) (500 : Int32) Γ (xX h n (hC0 p n x)) (n + 7) = some (.inl (), xX h n (hC0 p n (x + 1)), 0, 0) := by
      rw [X_stI (i := 1) (t := 1) (N := 13) (f := fun j => if j < x then Int32.ofNat 500 else 0) rfl (by omega) (by omega)]
      have : va_up (fun j => if j < x then Int32.ofNat 500 else 0) x (500 : Int32) = fun j => if j < x + 1 then Int32.ofNat 500 else 0 := by
        funext j
        rw [va_ap]
        by_cases c1 : j = x
        · rw [if_pos c1, if_pos (by omega)]
          rfl
        · rw [if_neg c1]
          by_cases c2 : j < x
          · rw [if_pos c2, if_pos (by omega)]
          · rw [if_neg c2, if_neg (by omega)]
      rw [this]
      rfl
    rw [fX6_init_p54, x_b1 (gp _), if_neg (by rw [i_lt (by omega) (by omega)]; omega), x_b1 g1, x_b1 st]
    dsimp only [xlet]
    rw [i1, i_add]
    exact ih (x + 1) fu (by omega) (by omega)
theorem k_hInit (hp : kSp h p fe o a) (pn : p < n) : fX6_init n (some p) Γ (xX h n [(true, .inr (19, [.null, .null, .null, .int 0, .int 0, .int 0, .null, .null]))]) (n + 1) = some (.inl (), xX h n (hC0 p n (o + 1)), 6, 57) := by
  have e := k_hInit54 (Γ := Γ) hp pn (o + 1) 0 xFU (by omega) (by have := hp.2.2.2.2.2.2.1; unfold xFU; omega)
  have z : hC0 p n 0 = [(true, .inr (19, [.ref p, .ref (n + 1), .ref (n + 5), .int (Int32.ofNat 0), .int (Int32.ofNat 0), .int (Int32.ofNat 0), .ref (n + 2), .ref (n + 3)])), (true, .inl (1, 13, .inl (fun _ => Int32.ofNat 0))), (true, .inr (22, [.int (Int32.ofNat 0), .int (Int32.ofNat 0), .int (Int32.ofNat 0), .int (Int32.ofNat 0), .int (Int32.ofNat 0), .int (Int32.ofNat 0), .int (Int32.ofNat 0)])), (true, .inr (23, [.ref (n + 4), .int (Int32.ofNat 0), .int (Int32.ofNat 0)])), (true, .inl (5, 17, .inr (.inr (.inr (.inr (fun _ => none)))))), (true, .inr (24, [.ref p, .ref (n + 6), .int (Int32.ofNat 0), .int (Int32.ofNat 0)])), (true, .inl (1, 13, .inl (fun _ => Int32.ofNat 0)))] := by
    unfold hC0
    have : (fun j => if j < 0 then Int32.ofNat 500 else 0) = fun _ : Nat => Int32.ofNat 0 := by
      funext j
      rw [if_neg (by omega)]
      rfl
    rw [this]
    rfl
  rw [z] at e
  simp (disch := first | omega | (simp only [List.length_cons, List.length_nil, List.length_set, List.length_append, List.set_cons_zero, List.set_cons_succ] <;> omega)) only [fX6_init, fX9_init, fJ27_init, fJ0_init__J27, fX10_init, xbind, xpure, xlet, i_ofNat, X_new, X_newA, Xr_put, Xr_put0, Lput, List.getElem?_cons_zero, List.getElem?_cons_succ, List.length_cons, List.length_nil, List.nil_append, List.cons_append, List.set_cons_zero, List.set_cons_succ, va_rf, Nat.add_assoc, Nat.reduceAdd, Nat.reduceLT, and_self, true_and, if_true, reduceIte, e]
end HI
