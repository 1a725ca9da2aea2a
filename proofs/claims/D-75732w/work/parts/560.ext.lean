/-! part 560: a heap with new cells behind it -/
/-- the heap h below n, from n on the cells L -/
def xX (h : xH) (n : Nat) (L : List xAC) : xH := fun a => if a < n then h a else L[a - n]?
section XX
variable {Γ : Nat → Option Nat} {h : xH} {n m i k ci t N : Nat} {L : List xAC} {fs : List Value} {w : Bool}
theorem xX_old {a : Nat} (ha : a < n) : xX h n L a = h a := if_pos ha
theorem xX_at : xX h n L (n + i) = L[i]? := by
  unfold xX
  rw [if_neg (by omega), Nat.add_sub_cancel_left]
theorem xX_at0 : xX h n L n = L[0]? := xX_at (i := 0)
theorem xX_nil (hb : xbd n h) : xX h n [] = h := by
  funext a
  unfold xX
  by_cases c : a < n
  · rw [if_pos c]
  · rw [if_neg c, hb a (by omega)]
    rfl
theorem xX_bd : xbd (n + L.length) (xX h n L) := by
  intro a ha
  unfold xX
  rw [if_neg (by omega), List.getElem?_eq_none (by omega)]
theorem xX_sub (hb : xbd n h) : hsub h (xX h n L) := fun a ha => xX_old (xbd_lt hb ha)
theorem xX_up {c : xAC} (hi : i < L.length) : xupd (xX h n L) (n + i) c = xX h n (L.set i c) := by
  funext a
  unfold xupd xX
  by_cases e : a = n + i
  · rw [if_pos e, if_neg (by omega), e, Nat.add_sub_cancel_left, List.getElem?_set_self hi]
  · rw [if_neg e]
    by_cases e2 : a < n
    · rw [if_pos e2, if_pos e2]
    · rw [if_neg e2, if_neg e2, List.getElem?_set_ne (by omega)]
theorem xX_app {c : xAC} (hm : m = n + L.length) : xupd (xX h n L) m c = xX h n (L ++ [c]) := by
  subst hm
  funext a
  unfold xupd xX
  by_cases e : a = n + L.length
  · rw [if_pos e, if_neg (by omega), e, Nat.add_sub_cancel_left, List.getElem?_append_right (Nat.le_refl _), Nat.sub_self]
    rfl
  · rw [if_neg e]
    by_cases e2 : a < n
    · rw [if_pos e2, if_pos e2]
    · rw [if_neg e2, if_neg e2]
      by_cases e3 : a - n < L.length
      · rw [List.getElem?_append_left e3]
      · rw [List.getElem?_eq_none (by omega), List.getElem?_eq_none (by rw [List.length_append, List.length_singleton]; omega)]
theorem X_new {sz : Nat} (hm : m = n + L.length) : xnew ci fs sz Γ (xX h n L) m = some (.inl m, xX h n (L ++ [(true, .inr (ci, fs))]), 1, sz) := by
  unfold xnew
  rw [xX_app hm]
theorem X_newA {c : Nat} {x : Nat → vp_A} (hm : m = n + L.length) (hc : c ≤ 1000000) : xnewA t x (Int32.ofNat c) Γ (xX h n L) m = some (.inl m, xX h n (L ++ [(true, .inl (t, x c))]), 1, c) := by
  unfold xnewA
  have h1 : (Int32.ofNat c).toNatClampNeg = c := i_nat (by omega)
  have h2 : ¬ Int32.ofNat c < 0 := i_nonneg (by omega)
  rw [h1, if_pos ⟨h2, hc⟩, xX_app hm]
theorem X_obj (hL : L[i]? = some (w, .inr (ci, fs))) : xobj (xX h n L) (some (n + i)) = some (n + i, ci, fs) := by
  unfold xobj
  simp only [xX_at, hL]
theorem X_sel {α : Type} {f : Nat → xM α} (hL : L[i]? = some (w, .inr (ci, fs))) : xsel (some (n + i)) [(ci, f)] Γ (xX h n L) m = f (n + i) Γ (xX h n L) m := by
  unfold xsel
  rw [X_obj hL]
  simp [List.lookup]
theorem X_cst {ok : Nat → Bool} (hL : L[i]? = some (w, .inr (ci, fs))) (hc : ok ci = true) : xcst ok (some (n + i)) Γ (xX h n L) m = some (.inl (), xX h n L, 0, 0) := by
  unfold xcst xokR
  simp only [X_obj hL, hc, if_true]
theorem X_ok {ok : Nat → Bool} (hL : L[i]? = some (w, .inr (ci, fs))) (hc : ok ci = true) : xokR (xX h n L) ok (some (n + i)) = true := by
  unfold xokR
  simp only [X_obj hL, hc]
theorem X_gI {v : Int32} (hL : L[i]? = some (w, .inr (ci, fs))) (hk : fs[k]? = some (.int v)) : xgI ci k (some (n + i)) Γ (xX h n L) m = some (.inl v, xX h n L, 0, 0) := by
  unfold xgI xget
  rw [X_obj hL]
  simp only [if_true, hk]
theorem X_gJ {v : Int64} (hL : L[i]? = some (w, .inr (ci, fs))) (hk : fs[k]? = some (.long v)) : xgJ ci k (some (n + i)) Γ (xX h n L) m = some (.inl v, xX h n L, 0, 0) := by
  unfold xgJ xget
  rw [X_obj hL]
  simp only [if_true, hk]
theorem X_gR {v : Option Nat} (hL : L[i]? = some (w, .inr (ci, fs))) (hk : fs[k]? = some (va_rf v)) : xgR ci k (some (n + i)) Γ (xX h n L) m = some (.inl v, xX h n L, 0, 0) := by
  unfold xgR xget
  rw [X_obj hL]
  cases v <;> simp only [if_true, hk] <;> rfl
theorem X_put {v : Value} (hL : L[i]? = some (true, .inr (ci, fs))) (hk : k < fs.length) : xput ci k (some (n + i)) v Γ (xX h n L) m = some (.inl (), xX h n (L.set i (true, .inr (ci, fs.set k v))), 0, 0) := by
  have hi := (List.getElem?_eq_some_iff.mp hL).1
  unfold xput
  simp only [xX_at, hL]
  rw [if_pos ⟨trivial, hk⟩, xX_up hi]
theorem X_pN {ty : FieldType} {v : Int32} (hL : L[i]? = some (true, .inr (ci, fs))) (hk : k < fs.length) (hn : narrow ty (.int v) = .int v ∧ fits ty (.int v) = true) : xpN ci k ty (some (n + i)) v Γ (xX h n L) m = some (.inl (), xX h n (L.set i (true, .inr (ci, fs.set k (.int v)))), 0, 0) := by
  unfold xpN
  rw [if_pos hn, X_put hL hk]
theorem X_putr {v : Value} {L' : List xAC} (hL : L[i]? = some (true, .inr (ci, fs))) (hk : Nat.ble (k + 1) fs.length = true) (hS : L.set i (true, .inr (ci, fs.set k v)) = L') : xput ci k (some (n + i)) v Γ (xX h n L) m = some (.inl (), xX h n L', 0, 0) := by
  rw [← hS]
  exact X_put hL (Nat.le_of_ble_eq_true hk)
theorem X_pNr {ty : FieldType} {v : Int32} {L' : List xAC} (hL : L[i]? = some (true, .inr (ci, fs))) (hk : Nat.ble (k + 1) fs.length = true) (hS : L.set i (true, .inr (ci, fs.set k (.int v))) = L') (hn : narrow ty (.int v) = .int v ∧ fits ty (.int v) = true) : xpN ci k ty (some (n + i)) v Γ (xX h n L) m = some (.inl (), xX h n L', 0, 0) := by
  rw [← hS]
  exact X_pN hL (Nat.le_of_ble_eq_true hk) hn
theorem X_arr {x : yCt} (hL : L[i]? = some (w, .inl (t, N, x))) : xarr (xX h n L) (some (n + i)) = some (n + i, t, N, x) := by
  unfold xarr
  simp only [xX_at, hL]
theorem X_len {x : yCt} (hL : L[i]? = some (w, .inl (t, N, x))) : xlen (some (n + i)) Γ (xX h n L) m = some (.inl (Int32.ofNat N), xX h n L, 0, 0) := by
  unfold xlen
  rw [X_arr hL]
theorem X_ldI {f : Nat → Int32} {j : Nat} (hL : L[i]? = some (w, .inl (t, N, .inl f))) (hj : j < N) (h2 : N ≤ 1000000) : xldI t (some (n + i)) (Int32.ofNat j) Γ (xX h n L) m = some (.inl (f j), xX h n L, 0, 0) := by
  have h1 : j < 2147483648 := by omega
  unfold xldI
  rw [X_arr hL]
  dsimp only
  rw [if_pos ⟨rfl, by rw [i_nat h1]; rintro (q | q); exact i_nonneg h1 q; omega⟩, i_nat h1]
theorem X_stI {f : Nat → Int32} {j : Nat} {v : Int32} (hL : L[i]? = some (true, .inl (t, N, .inl f))) (hj : j < N) (h2 : N ≤ 1000000) : xstI t (some (n + i)) (Int32.ofNat j) v Γ (xX h n L) m = some (.inl (), xX h n (L.set i (true, .inl (t, N, .inl (va_up f j v)))), 0, 0) := by
  have h1 : j < 2147483648 := by omega
  have hi := (List.getElem?_eq_some_iff.mp hL).1
  unfold xstI
  simp only [xX_at, hL]
  rw [if_pos ⟨trivial, by rw [i_nat h1]; rintro (q | q); exact i_nonneg h1 q; omega⟩, i_nat h1, xX_up hi]
theorem X_ldR {f : Nat → Option Nat} {j : Nat} (hL : L[i]? = some (w, .inl (t, N, .inr (.inr (.inr (.inr f)))))) (h5 : 5 ≤ t) (hj : j < N) (h2 : N ≤ 1000000) : xldR (some (n + i)) (Int32.ofNat j) Γ (xX h n L) m = some (.inl (f j), xX h n L, 0, 0) := by
  have h1 : j < 2147483648 := by omega
  unfold xldR
  rw [X_arr hL]
  dsimp only
  rw [if_pos ⟨by rw [i_nat h1]; rintro (q | q); exact i_nonneg h1 q; omega, h5⟩, i_nat h1]
theorem X_stR {f : Nat → Option Nat} {j : Nat} {v : Option Nat} {ok : Nat → Bool} (hL : L[i]? = some (true, .inl (t, N, .inr (.inr (.inr (.inr f)))))) (hj : j < N) (h2 : N ≤ 1000000) (hv : xokR (xX h n L) ok v = true) : xstR t ok (some (n + i)) (Int32.ofNat j) v Γ (xX h n L) m = some (.inl (), xX h n (L.set i (true, .inl (t, N, .inr (.inr (.inr (.inr (va_up f j v))))))), 0, 0) := by
  have h1 : j < 2147483648 := by omega
  have hi := (List.getElem?_eq_some_iff.mp hL).1
  unfold xstR
  simp only [xX_at, hL]
  rw [if_pos ⟨trivial, by rw [i_nat h1]; rintro (q | q); exact i_nonneg h1 q; omega, hv⟩, i_nat h1, xX_up hi]
/-- the getters at a new cell -/
theorem X_W (hL : L[i]? = some (true, .inr (ci, fs))) (hk : fs.map ykd = ykn ci) : yW (xX h n L) ci (n + i) := by
  unfold yW yhd
  rw [xX_at, hL]
  show some (true, Sum.inr (ci, fs.map ykd)) = _
  rw [hk]
theorem X_yi {v : Int32} (hL : L[i]? = some (w, .inr (ci, fs))) (hk : fs[k]? = some (.int v)) : yi (xX h n L) ci k (n + i) = v := by
  unfold yi yv
  rw [xX_at, hL]
  dsimp only
  rw [if_pos rfl, List.getD_eq_getElem?_getD, hk]
  rfl
theorem X_yr {v : Option Nat} (hL : L[i]? = some (w, .inr (ci, fs))) (hk : fs[k]? = some (va_rf v)) : yr (xX h n L) ci k (n + i) = v := by
  unfold yr yv
  rw [xX_at, hL]
  dsimp only
  rw [if_pos rfl, List.getD_eq_getElem?_getD, hk]
  exact yvR_rf v
theorem X_B {x : yCt} (hL : L[i]? = some (true, .inl (t, N, x))) (hk : ykc x = ytk t) : yB (xX h n L) t (n + i) := by
  refine ⟨N, ?_⟩
  unfold yhd
  rw [xX_at, hL]
  show some (true, Sum.inl (t, N, ykc x)) = _
  rw [hk]
theorem X_yln {x : yCt} (hL : L[i]? = some (w, .inl (t, N, x))) : yln (xX h n L) (n + i) = N := by
  unfold yln yhd
  rw [xX_at, hL]
  rfl
theorem X_yli {f : Nat → Int32} (hL : L[i]? = some (w, .inl (t, N, .inl f))) : yli (xX h n L) t (n + i) = f := by
  unfold yli yc
  rw [xX_at, hL]
  dsimp only
  rw [if_pos rfl]
  rfl
theorem X_ylr {f : Nat → Option Nat} (hL : L[i]? = some (w, .inl (t, N, .inr (.inr (.inr (.inr f)))))) : ylr (xX h n L) t (n + i) = f := by
  unfold ylr yc
  rw [xX_at, hL]
  dsimp only
  rw [if_pos rfl]
  rfl
end XX
/-! the same for running by simp: the lists are concrete -/
def Lget (L : List xAC) (i ci k : Nat) : Option Value := match L[i]? with
  | some (_, .inr (c, fs)) => if c = ci then fs[k]? else none
  | _ => none
def Lput (L : List xAC) (i ci k : Nat) (v : Value) : Option (List xAC) := match L[i]? with
  | some (true, .inr (c, fs)) => if c = ci ∧ k < fs.length then some (L.set i (true, .inr (c, fs.set k v))) else none
  | _ => none
section XR
variable {Γ : Nat → Option Nat} {h : xH} {n m i k ci t N : Nat} {L : List xAC} {fs : List Value} {w : Bool}
theorem Xr_gI : xgI ci k (some (n + i)) Γ (xX h n L) m = match Lget L i ci k with
    | some (.int v) => some (.inl v, xX h n L, 0, 0)
    | _ => none := by
  unfold xgI xget xobj Lget
  simp only [xX_at]
  cases L[i]? with
  | none => rfl
  | some c =>
    obtain ⟨w, x⟩ := c
    cases x with
    | inl z => rfl
    | inr z =>
      obtain ⟨c, fs⟩ := z
      dsimp only
      by_cases e : c = ci
      · simp only [if_pos e]
        cases fs[k]? with
        | none => rfl
        | some v => cases v <;> rfl
      · simp only [if_neg e]
theorem Xr_gR : xgR ci k (some (n + i)) Γ (xX h n L) m = match Lget L i ci k with
    | some (.ref a) => some (.inl (some a), xX h n L, 0, 0)
    | some .null => some (.inl none, xX h n L, 0, 0)
    | _ => none := by
  unfold xgR xget xobj Lget
  simp only [xX_at]
  cases L[i]? with
  | none => rfl
  | some c =>
    obtain ⟨w, x⟩ := c
    cases x with
    | inl z => rfl
    | inr z =>
      obtain ⟨c, fs⟩ := z
      dsimp only
      by_cases e : c = ci
      · simp only [if_pos e]
        cases fs[k]? with
        | none => rfl
        | some v => cases v <;> rfl
      · simp only [if_neg e]
theorem Xr_put {v : Value} : xput ci k (some (n + i)) v Γ (xX h n L) m = match Lput L i ci k v with
    | some L' => some (.inl (), xX h n L', 0, 0)
    | none => none := by
  unfold xput Lput
  simp only [xX_at]
  cases hL : L[i]? with
  | none => rfl
  | some c =>
    obtain ⟨w, x⟩ := c
    cases w with
    | false => cases x <;> rfl
    | true =>
      cases x with
      | inl z => rfl
      | inr z =>
        obtain ⟨c, fs⟩ := z
        dsimp only
        by_cases e : c = ci ∧ k < fs.length
        · rw [if_pos e, if_pos e, xX_up (List.getElem?_eq_some_iff.mp hL).1]
        · rw [if_neg e, if_neg e]
theorem Xr_gI0 : xgI ci k (some n) Γ (xX h n L) m = match Lget L 0 ci k with
    | some (.int v) => some (.inl v, xX h n L, 0, 0)
    | _ => none := Xr_gI (i := 0)
theorem Xr_gR0 : xgR ci k (some n) Γ (xX h n L) m = match Lget L 0 ci k with
    | some (.ref a) => some (.inl (some a), xX h n L, 0, 0)
    | some .null => some (.inl none, xX h n L, 0, 0)
    | _ => none := Xr_gR (i := 0)
theorem Xr_put0 {v : Value} : xput ci k (some n) v Γ (xX h n L) m = match Lput L 0 ci k v with
    | some L' => some (.inl (), xX h n L', 0, 0)
    | none => none := Xr_put (i := 0)
end XR
