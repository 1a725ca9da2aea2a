/-! part 12: names for values, stores that keep some locals, casts, throw, exceptions -/
theorem xlt {x : xC} {N i : Nat} (h : xnL x = N) (d : Nat.blt i N = true) : i < xnL x := by rw [h]; exact Nat.blt_eq.mp d
theorem xroom {x : xC} {FR LO fr lo : Nat} (h : ∃ dc ds, x.2.2.2.1 = { frames := FR, cells := dc, slots := ds, locals := LO }) (h1 : fr ≤ FR) (h2 : lo ≤ LO) : xRoom x fr lo := by
  obtain ⟨dc, ds, h⟩ := h
  unfold xRoom
  rw [h]
  exact ⟨h1, h2⟩
theorem xln {d : String} {k : Nat} (h : (parseMethodDescriptor d).map (fun s => s.parameters.length) = some k) : ∀ sig, parseMethodDescriptor d = some sig → k = sig.parameters.length := by
  intro sig hs
  rw [hs] at h
  cases h
  rfl
theorem xcat {st : List Value} (h : 2 * st.length ≤ 8) : (st.map fun v => v.category).sum ≤ 8 := by
  have : ∀ l : List Value, (l.map fun v => v.category).sum ≤ 2 * l.length := by
    intro l
    induction l with
    | nil => simp
    | cons a l ih =>
      rcases lv_cat a with e | e <;> simp only [List.map_cons, List.sum_cons, List.length_cons, e] <;> omega
  exact Nat.le_trans (this st) h
theorem xct_i {v : Int32} : (Value.int v).category = 1 := rfl
theorem xct_l {v : Int64} : (Value.long v).category = 2 := rfl
theorem xct_d {v : UInt64} : (Value.double v).category = 2 := rfl
theorem xct_r {v : Nat} : (Value.ref v).category = 1 := rfl
theorem xrf_some {v : Nat} : va_rf (some v) = .ref v := rfl
def xkeep (i : Nat) (lv : List (Nat × Value)) : Prop := ∀ q ∈ lv, q.1 ≠ i ∧ (q.1 + 1 = i → q.2.category = 1)
theorem xk0 {i : Nat} : xkeep i [] := fun q h => by cases h
theorem xk1 {i k : Nat} {v : Value} {lv : List (Nat × Value)} (h1 : Nat.beq k i = false) (h2 : Nat.beq (k + 1) i = false) (t : xkeep i lv) : xkeep i ((k, v) :: lv) := by
  intro q h
  rcases List.mem_cons.mp h with rfl | h
  · exact ⟨Nat.ne_of_beq_eq_false h1, fun e => absurd e (Nat.ne_of_beq_eq_false h2)⟩
  · exact t q h
theorem xk2 {i k : Nat} {v : Value} {lv : List (Nat × Value)} (h1 : Nat.beq k i = false) (h2 : v.category = 1) (t : xkeep i lv) : xkeep i ((k, v) :: lv) := by
  intro q h
  rcases List.mem_cons.mp h with rfl | h
  · exact ⟨Nat.ne_of_beq_eq_false h1, fun _ => h2⟩
  · exact t q h
theorem xkeep.f1 {i : Nat} {lv : List (Nat × Value)} (h : xkeep i lv) : lv.filter (fun q => !(q.1 == i) && !(q.1 + 1 == i && q.2.category == 2)) = lv := by
  refine List.filter_eq_self.mpr fun q hq => ?_
  obtain ⟨h1, h2⟩ := h q hq
  by_cases e : q.1 + 1 = i
  · simp [h1, h2 e]
  · simp [h1, e]
theorem xkeep.f2 {i : Nat} {lv : List (Nat × Value)} (h : xkeep i lv) (h' : ∀ q ∈ lv, Nat.beq q.1 (i + 1) = false) : lv.filter (fun q => !(q.1 == i) && (!(q.1 == i + 1) && !(q.1 + 1 == i && q.2.category == 2))) = lv := by
  refine List.filter_eq_self.mpr fun q hq => ?_
  obtain ⟨h1, h2⟩ := h q hq
  have h3 := Nat.ne_of_beq_eq_false (h' q hq)
  by_cases e : q.1 + 1 = i
  · simp [h1, h3, h2 e]
  · simp [h1, h3, e]
theorem xk20 {i : Nat} : ∀ q ∈ ([] : List (Nat × Value)), Nat.beq q.1 i = false := fun q h => by cases h
theorem xk21 {i k : Nat} {v : Value} {lv : List (Nat × Value)} (h1 : Nat.beq k i = false) (t : ∀ q ∈ lv, Nat.beq q.1 i = false) : ∀ q ∈ (k, v) :: lv, Nat.beq q.1 i = false := by
  intro q h
  rcases List.mem_cons.mp h with rfl | h
  · exact h1
  · exact t q h
section XM2
variable {α : Type} {x : xC} {emb : α → Option Value} {own : String} {cc : ByteArray} {ret : Option FieldType} {pc : Nat} {lv lv' lv0 : List (Nat × Value)} {st : List Value} {cm : xM α}
theorem xr_letI {a : Int32} {k : Int32 → xM α} (kk : ∀ b, xI x emb pc lv (.int b :: st) (k b)) : xI x emb pc lv (.int a :: st) (xlet a k) := kk a
theorem xr_letJ {a : Int64} {k : Int64 → xM α} (kk : ∀ b, xI x emb pc lv (.long b :: st) (k b)) : xI x emb pc lv (.long a :: st) (xlet a k) := kk a
theorem xr_letD {a : UInt64} {k : UInt64 → xM α} (kk : ∀ b, xI x emb pc lv (.double b :: st) (k b)) : xI x emb pc lv (.double a :: st) (xlet a k) := kk a
theorem xs_i {i : Nat} {v : Int32} {N : Nat} (ks : List Nat) (F : xF x own cc ret) (hd : decode cc pc = .ok (.istore i, 2)) (hn : xnL x = N) (hi : Nat.blt i N = true) (hl : lv_pick lv ks = lv0) (hk : xkeep i lv0) (k : xI x emb (pc + 2) ((i, .int v) :: lv0) st cm) : xI x emb pc lv (.int v :: st) cm := xI.sub ks hl (xr_istore F hd (xlt hn hi) (by rw [hk.f1]) k)
theorem xs_i_n {i : Fin 4} {v : Int32} {N : Nat} (ks : List Nat) (F : xF x own cc ret) (hd : decode cc pc = .ok (.istore_n i, 1)) (hn : xnL x = N) (hi : Nat.blt (i : Nat) N = true) (hl : lv_pick lv ks = lv0) (hk : xkeep i lv0) (k : xI x emb (pc + 1) (((i : Nat), .int v) :: lv0) st cm) : xI x emb pc lv (.int v :: st) cm := xI.sub ks hl (xr_istore_n F hd (xlt hn hi) (by rw [hk.f1]) k)
theorem xs_a {i : Nat} {r : Option Nat} {N : Nat} (ks : List Nat) (F : xF x own cc ret) (hd : decode cc pc = .ok (.astore i, 2)) (hn : xnL x = N) (hi : Nat.blt i N = true) (hl : lv_pick lv ks = lv0) (hk : xkeep i lv0) (k : xI x emb (pc + 2) ((i, va_rf r) :: lv0) st cm) : xI x emb pc lv (va_rf r :: st) cm := xI.sub ks hl (xr_astore F hd (xlt hn hi) (by rw [hk.f1]) k)
theorem xs_a_n {i : Fin 4} {r : Option Nat} {N : Nat} (ks : List Nat) (F : xF x own cc ret) (hd : decode cc pc = .ok (.astore_n i, 1)) (hn : xnL x = N) (hi : Nat.blt (i : Nat) N = true) (hl : lv_pick lv ks = lv0) (hk : xkeep i lv0) (k : xI x emb (pc + 1) (((i : Nat), va_rf r) :: lv0) st cm) : xI x emb pc lv (va_rf r :: st) cm := xI.sub ks hl (xr_astore_n F hd (xlt hn hi) (by rw [hk.f1]) k)
theorem xs_l {i : Nat} {v : Int64} {N : Nat} (ks : List Nat) (F : xF x own cc ret) (hd : decode cc pc = .ok (.lstore i, 2)) (hn : xnL x = N) (hi : Nat.blt (i + 1) N = true) (hl : lv_pick lv ks = lv0) (hk : xkeep i lv0) (hk2 : ∀ q ∈ lv0, Nat.beq q.1 (i + 1) = false) (k : xI x emb (pc + 2) ((i, .long v) :: lv0) st cm) : xI x emb pc lv (.long v :: st) cm := xI.sub ks hl (xr_lstore F hd (xlt hn hi) (by rw [hk.f2 hk2]) k)
theorem xs_l_n {i : Fin 4} {v : Int64} {N : Nat} (ks : List Nat) (F : xF x own cc ret) (hd : decode cc pc = .ok (.lstore_n i, 1)) (hn : xnL x = N) (hi : Nat.blt ((i : Nat) + 1) N = true) (hl : lv_pick lv ks = lv0) (hk : xkeep i lv0) (hk2 : ∀ q ∈ lv0, Nat.beq q.1 ((i : Nat) + 1) = false) (k : xI x emb (pc + 1) (((i : Nat), .long v) :: lv0) st cm) : xI x emb pc lv (.long v :: st) cm := xI.sub ks hl (xr_lstore_n F hd (xlt hn hi) (by rw [hk.f2 hk2]) k)
theorem xs_d {i : Nat} {v : UInt64} {N : Nat} (ks : List Nat) (F : xF x own cc ret) (hd : decode cc pc = .ok (.dstore i, 2)) (hn : xnL x = N) (hi : Nat.blt (i + 1) N = true) (hl : lv_pick lv ks = lv0) (hk : xkeep i lv0) (hk2 : ∀ q ∈ lv0, Nat.beq q.1 (i + 1) = false) (k : xI x emb (pc + 2) ((i, .double v) :: lv0) st cm) : xI x emb pc lv (.double v :: st) cm := xI.sub ks hl (xr_dstore F hd (xlt hn hi) (by rw [hk.f2 hk2]) k)
theorem xs_d_n {i : Fin 4} {v : UInt64} {N : Nat} (ks : List Nat) (F : xF x own cc ret) (hd : decode cc pc = .ok (.dstore_n i, 1)) (hn : xnL x = N) (hi : Nat.blt ((i : Nat) + 1) N = true) (hl : lv_pick lv ks = lv0) (hk : xkeep i lv0) (hk2 : ∀ q ∈ lv0, Nat.beq q.1 ((i : Nat) + 1) = false) (k : xI x emb (pc + 1) (((i : Nat), .double v) :: lv0) st cm) : xI x emb pc lv (.double v :: st) cm := xI.sub ks hl (xr_dstore_n F hd (xlt hn hi) (by rw [hk.f2 hk2]) k)
theorem xs_inc {i : Nat} {n : Int} {v c0 : Int32} {N : Nat} {k : Int32 → xM α} (ks : List Nat) (F : xF x own cc ret) (hd : decode cc pc = .ok (.iinc i n, 3)) (hv : Int32.ofInt n = c0) (hn : xnL x = N) (hi : Nat.blt i N = true) (hl : lv_pick lv ks = (i, .int v) :: lv0) (hk : xkeep i lv0) (kk : ∀ y, xI x emb (pc + 3) ((i, .int y) :: lv0) st (k y)) : xI x emb pc lv st (xlet (v + c0) k) := by
  refine xI.sub ks hl (xr_iinc (lv' := fun y => (i, .int y) :: lv0) 0 F hd rfl hv (xlt hn hi) (fun y => ?_) kk)
  rw [List.filter_cons_of_neg (by simp), hk.f1]
/-- checkcast: null, or an object of a class whose number is ok -/
def xcst (ok : Nat → Bool) (r : Option Nat) : xM Unit := fun _ h _ => if xokR h ok r = true then some (.inl (), h, 0, 0) else none
theorem xr_cast {idx : Nat} {nm : String} {ok : Nat → Bool} {r : Option Nat} {kk : Unit → xM α} (F : xF x own cc ret) (hd : decode cc pc = .ok (.checkcast idx, 3)) (w1 : Cond.classLink own idx nm ∈ lw_all) (hok : xOk ok nm) (K : xI x emb (pc + 3) lv (va_rf r :: st) (kk ())) : xI x emb pc lv (va_rf r :: st) (xbind (xcst ok r) kk) := by
  obtain ⟨p, l, e, R, s, m, args, below, meth, c, D, s0, Γ, nL, b0⟩ := x
  intro h n o h' dc ds he H locs cells slots ls hR hlv hL h1 h2
  have W1 := xwd F w1 (a := args)
  rcases xbind_some he with ⟨u, h1', c1, s1, r', h2', c2, s2, hf, hkk, hz⟩ | ⟨q, h1', c1, s1, hf, hz⟩
  · unfold xcst at hf
    split at hf
    · rename_i hv
      cases hf
      cases hz
      have K2 := K h n o h' (0 + c2) (0 + s2) (by rw [Nat.zero_add, Nat.zero_add]; exact hkk) H locs cells slots ls hR hlv hL h1 h2
      cases r with
      | none => exact lv_castN F.1 F.2.1 hd K2
      | some v =>
        have hv : (match xobj h (some v) with | some (_, c, _) => ok c | none => false) = true := hv
        split at hv
        · rename_i av cv fv hov
          obtain ⟨hq1, wv, hav⟩ := xobj_some hov
          cases hq1
          obtain ⟨q, hq, hw⟩ := hok _ hv
          obtain ⟨cellV, v1, v2, v3, -⟩ := xcls F hR hav hq
          exact va_castY F.1 F.2.1 F.2.2.2.1 W1 (xcast F hw) ⟨cellV, v1, v2, v3⟩ hd K2
        · cases hv
    · cases hf
  · unfold xcst at hf
    split at hf <;> cases hf
/-- instanceof, by the class's number: yes, no, or not known -/
def xins (f : Nat → Option Bool) (r : Option Nat) : xM Int32 := fun _ h _ => match r with
  | none => some (.inl 0, h, 0, 0)
  | some _ => match xobj h r with
    | some (_, c, _) => (match f c with | some true => some (.inl 1, h, 0, 0) | some false => some (.inl 0, h, 0, 0) | none => none)
    | none => none
def xInsY (f : Nat → Option Bool) (E : String) : Prop := ∀ ci, f ci = some true → ∃ q, xcl[ci]? = some q ∧ Cond.castable q.1 E ∈ lw_tbl
theorem xr_insY {idx : Nat} {nm : String} {f : Nat → Option Bool} {r : Option Nat} {kk : Int32 → xM α} (F : xF x own cc ret) (hd : decode cc pc = .ok (.instanceof idx, 3)) (w1 : Cond.classLink own idx nm ∈ lw_all) (hok : xInsY f nm) (hno : ∀ ci, f ci ≠ some false) (K : ∀ v, xI x emb (pc + 3) lv (.int v :: st) (kk v)) : xI x emb pc lv (va_rf r :: st) (xbind (xins f r) kk) := by
  obtain ⟨p, l, e, R, s, m, args, below, meth, c, D, s0, Γ, nL, b0⟩ := x
  intro h n o h' dc ds he H locs cells slots ls hR hlv hL h1 h2
  have W1 := xwd F w1 (a := args)
  rcases xbind_some he with ⟨u, h1', c1, s1, r', h2', c2, s2, hf, hkk, hz⟩ | ⟨q, h1', c1, s1, hf, hz⟩
  · unfold xins at hf
    split at hf
    · cases hf
      cases hz
      exact lv_instN F.1 F.2.1 hd (K 0 h n o h' (0 + c2) (0 + s2) (by rw [Nat.zero_add, Nat.zero_add]; exact hkk) H locs cells slots ls hR hlv hL h1 h2)
    · split at hf
      · rename_i av cv fv hov
        split at hf
        · rename_i hv
          cases hf
          cases hz
          obtain ⟨hq1, wv, hav⟩ := xobj_some hov
          cases hq1
          obtain ⟨q, hq, hw⟩ := hok _ hv
          obtain ⟨cellV, v1, v2, v3, -⟩ := xcls F hR hav hq
          exact va_instY F.1 F.2.1 F.2.2.2.1 W1 (xcast F hw) ⟨cellV, v1, v2, v3⟩ hd (K 1 h n o h' (0 + c2) (0 + s2) (by rw [Nat.zero_add, Nat.zero_add]; exact hkk) H locs cells slots ls hR hlv hL h1 h2)
        · rename_i hv
          exact absurd hv (hno _)
        · cases hf
      · cases hf
  · unfold xins at hf
    split at hf
    · cases hf
    · split at hf
      · split at hf <;> cases hf
      · cases hf
/-- athrow, out of the method -/
theorem xr_throw {r : Option Nat} (F : xF x own cc ret) (hd : decode cc pc = .ok (.athrow, 1)) (hno : xNo x pc) : xI x emb pc lv (va_rf r :: st) (xthrow r : xM α) := by
  obtain ⟨p, l, e, R, s, m, args, below, meth, c, D, s0, Γ, nL, b0⟩ := x
  intro h n o h' dc ds he H locs cells slots ls hR hlv hL h1 h2
  have hlk := F.2.2.2.2.1
  unfold xthrow at he
  split at he
  · rename_i a ca fa hoa
    cases he
    obtain ⟨rfl, w, ha⟩ := xobj_some hoa
    refine vx_athrow F.1 F.2.1 hd ?_
    intro T hT X
    obtain ⟨st1, hrun2, hend, hW2, hsm⟩ := X.leaveThrown a (g := F0 m pc ls st) rfl rfl rfl hno hlk
    exact ⟨_, st1, .threw a, hrun2, hend, rfl, by show xR D s0 h n T.heap; rw [hT]; exact hR, locs, hW2, hsm, hL⟩
  · cases he
end XM2
