/-! part 17: handlers -/
theorem xtry_some {α β : Type} {f : xM α} {k : α → xM β} {k2 : Nat → xM β} {Γ : Nat → Option Nat} {h : xH} {n : Nat} {z : (β ⊕ Nat) × xH × Nat × Nat} (e : xtry f k k2 Γ h n = some z) : (∃ a h1 c1 s1 r h2 c2 s2, f Γ h n = some (.inl a, h1, c1, s1) ∧ k a Γ h1 (n + c1) = some (r, h2, c2, s2) ∧ z = (r, h2, c1 + c2, s1 + s2)) ∨ (∃ q h1 c1 s1 r h2 c2 s2, f Γ h n = some (.inr q, h1, c1, s1) ∧ k2 q Γ h1 (n + c1) = some (r, h2, c2, s2) ∧ z = (r, h2, c1 + c2, s1 + s2)) := by
  unfold xtry at e
  split at e
  · cases e
  · rename_i q h1 c1 s1 hf
    split at e
    · cases e
    · rename_i r h2 c2 s2 hk
      cases e
      exact Or.inr ⟨q, h1, c1, s1, r, h2, c2, s2, hf, hk, rfl⟩
  · rename_i a h1 c1 s1 hf
    split at e
    · cases e
    · rename_i r h2 c2 s2 hk
      cases e
      exact Or.inl ⟨a, h1, c1, s1, r, h2, c2, s2, hf, hk, rfl⟩
/-- q is thrown in the frame at pc: the method goes on as cm -/
def xT {α : Type} (x : xC) (emb : α → Option Value) (pc : Nat) (lv : List (Nat × Value)) (q : Nat) (cm : xM α) : Prop := match x with
  | (p, l, e, R, s, m, args, below, meth, c, D, s0, Γ, nL, _) => ∀ (h : xH) (n : Nat) (o : α ⊕ Nat) (h' : xH) (dc ds : Nat), cm Γ h n = some (o, h', dc, ds) →
    ∀ (H : Heap) (locs : List Loc) (cells slots : Nat) (ls : Array Slot) (st : List Value), xR D s0 h n H → lv_has ls nL lv → (∀ q ∈ locs, s0.heap.size ≤ q.base) → cells + dc ≤ R.cells → slots + ds ≤ R.slots →
    vx_W p l e R s m args below meth c H locs cells slots (xZ below D s0 emb o h' (n + dc) (cells + dc) (slots + ds) s) (F0 m pc ls st) q
section XT1
variable {α β : Type} {x : xC} {emb : α → Option Value} {embb : β → Option Value} {own : String} {cc : ByteArray} {ret : Option FieldType} {pc : Nat} {lv lv' : List (Nat × Value)} {st st0 : List Value} {cmc : xM β} {kk : β → xM α} {k2 : Nat → xM α}
theorem xT.stuck {q : Nat} : xT x emb pc lv q (xstuck : xM α) := by
  obtain ⟨p, l, e, R, s, m, args, below, meth, c, D, s0, Γ, nL, b0⟩ := x
  intro h n o h' dc ds hc
  cases hc
theorem xI.tryc (len : Nat) (F : xF x own cc ret)
    (hrun : ∀ (H : Heap) (locs : List Loc) (cells slots : Nat) (ls : Array Slot) (h : xH) (n : Nat), xR x.2.2.2.2.2.2.2.2.2.2.1 x.2.2.2.2.2.2.2.2.2.2.2.1 h n H → lv_has ls (xnL x) lv → xRun x H locs cells slots pc len ls st0 st embb cmc h n)
    (K : ∀ r, xI x emb (pc + len) lv ((embb r).toList ++ st) (kk r)) (K2 : ∀ q, xT x emb pc lv q (k2 q)) : xI x emb pc lv st0 (xtry cmc kk k2) := by
  obtain ⟨p, l, e, R, s, m, args, below, meth, c, D, s0, Γ, nL, b0⟩ := x
  intro h n o h' dc ds he H locs cells slots ls hR hlv hL h1 h2
  have hrun := hrun H locs cells slots ls h n hR hlv
  rcases xtry_some he with ⟨u, hb, c1, s1, r', h2', c2, s2, hf, hkk, hz⟩ | ⟨q, hb, c1, s1, r', h2', c2, s2, hf, hkk, hz⟩
  · cases hz
    intro T hT X
    rcases hrun _ _ _ _ hf (by omega) (by omega) T hT X with ⟨v, vm₁, B, a, hW, X', hp, st⟩ | ⟨q, vm₁, B, a, hW, X', hp, st⟩
    · obtain ⟨⟨r, hr, rfl⟩, hR2, ⟨L, hL1, hL2⟩, hc1, hc2⟩ := hp
      cases hr
      have K2 := K u hb (n + c1) o h' c2 s2 hkk B.U.heap (locs ++ L) (cells + c1) (slots + s1) ls hR2 hlv (fun q hq => by
        rcases List.mem_append.mp hq with g | g
        · exact hL q g
        · exact hL2 q g) (by omega) (by omega)
      obtain ⟨U, l2, q3, q4⟩ := B
      dsimp only [Pt.U, Pt.locs, Pt.cells, Pt.slots] at *
      subst hL1; subst hc1; subst hc2
      obtain ⟨t, a1, b1⟩ := K2 U rfl X'
      have e1 : n + (c1 + c2) = n + c1 + c2 := by omega
      have e2 : cells + (c1 + c2) = cells + c1 + c2 := by omega
      have e3 : slots + (s1 + s2) = slots + s1 + s2 := by omega
      rw [e1, e2, e3]
      exact ⟨t, st t a1, b1⟩
    · exact absurd hp.1 (by simp)
  · cases hz
    intro T hT X
    rcases hrun _ _ _ _ hf (by omega) (by omega) T hT X with ⟨v, vm₁, B, a, hW, X', hp, st⟩ | ⟨q', vm₁, B, a, hW, X', hp, st⟩
    · obtain ⟨⟨r, hr, rfl⟩, -⟩ := hp
      cases hr
    · obtain ⟨hq, hR2, ⟨L, hL1, hL2⟩, hc1, hc2⟩ := hp
      cases hq
      have K3 := K2 q hb (n + c1) o h' c2 s2 hkk B.U.heap (locs ++ L) (cells + c1) (slots + s1) ls
      obtain ⟨U, l2, q3, q4⟩ := B
      dsimp only [Pt.U, Pt.locs, Pt.cells, Pt.slots] at *
      subst hL1; subst hc1; subst hc2
      obtain ⟨t, a1, b1⟩ := K3 _ hR2 hlv (fun q hq => by
        rcases List.mem_append.mp hq with g | g
        · exact hL q g
        · exact hL2 q g) (by omega) (by omega) U rfl X'
      have e1 : n + (c1 + c2) = n + c1 + c2 := by omega
      have e2 : cells + (c1 + c2) = cells + c1 + c2 := by omega
      have e3 : slots + (s1 + s2) = slots + s1 + s2 := by omega
      rw [e1, e2, e3]
      exact ⟨t, st.trans a1, b1⟩
theorem xT.catch {ci q : Nat} {E : String} {T : u_T} {N : Nat} {c1 : xM α} (F : xF x own cc ret) {hh : List (Nat × Nat × Nat × Nat)} (htb : x.2.2.2.2.2.2.2.2.2.1.exceptionTable.toList = tableOf hh) (pre : List ExceptionTableEntry) (z : ExceptionTableEntry) (suf : List ExceptionTableEntry) (hsplit : tableOf hh = pre ++ z :: suf) (hc : xcl[ci]? = some (E, T, N))
    (hpass : ∀ y ∈ pre, covers y pc = false ∨ (y.catchType ≠ 0 ∧ ∃ (nm : String) (k : Nat), Cond.classLink own y.catchType nm ∈ lw_all ∧ xnc[k]? = some (E, nm))) (hx : covers z pc = true) (hct : z.catchType = 0 ∨ (z.catchType ≠ 0 ∧ ∃ nm : String, Cond.classLink own z.catchType nm ∈ lw_all ∧ Cond.castable E nm ∈ lw_tbl))
    (K : xI x emb z.handlerPc lv [va_rf (some q)] c1) : xT x emb pc lv q (xsel (some q) [(ci, fun _ => c1)]) := by
  obtain ⟨p, l, e, R, s, m, args, below, meth, c, D, s0, Γ, nL, b0⟩ := x
  intro h n o h' dc ds he H locs cells slots ls st hR hlv hL h1 h2
  obtain ⟨a, w, fs, hq, ha, he⟩ := xsel_some he
  cases hq
  obtain ⟨ce, hcell, hv, hcl, -⟩ := xcls F hR ha hc
  have hown := F.2.2.2.1
  intro T9 hT X
  have hpl : e.platform.magicAccessors = ({} : Platform).magicAccessors := by rw [X.admits.platform]
  obtain ⟨vm', X', st1⟩ := X.thenCaughtThrough q (g := F0 m pc ls st) rfl (Steps.refl _) (by rw [hT]; exact hcell) hv (by obtain ⟨k9, h9, -⟩ := Vm.findClass_spec hcl; exact ⟨k9, h9⟩) pre z suf (htb.trans hsplit)
    (fun y hy => by
      rcases hpass y hy with h | ⟨hz0, nm, k, hl1, hn1⟩
      · exact Or.inl h
      · obtain ⟨c6, hc6, hcl6⟩ := Cond.classLink_spec hown (xwd F hl1 (a := args)) e.platform hpl
        obtain ⟨a8, b8, h1, h2, h3⟩ := va_Nc.moved F.2.2.2.2.2.2.2.1.alike (F.2.2.2.2.2.2.1.2.2.2.2.2.2.2.2.2.2.1 k E nm hn1)
        cases Option.some.inj (h1.symm.trans hcl)
        cases Option.some.inj (h2.symm.trans hc6)
        exact Or.inr ⟨hz0, _, hcl6, h3⟩) hx (by
      rcases hct with h | ⟨h0, nm, hl1, hn1⟩
      · exact Or.inl h
      · obtain ⟨c3, c4, hc3, hc4, hasg⟩ := Cond.castable_spec (va_Nw.use (A := args) rfl (xcast F hn1))
        cases Option.some.inj (hc3.symm.trans hcl)
        obtain ⟨c5, hc5, hcl5⟩ := Cond.classLink_spec hown (xwd F hl1 (a := args)) e.platform hpl
        cases Option.some.inj (hc4.symm.trans hc5)
        exact Or.inr ⟨h0, c4, hcl5, hasg⟩)
  obtain ⟨t, a1, b1⟩ := K h n o h' dc ds he H locs cells slots ls hR hlv hL h1 h2 (T9.setVm vm') hT X'
  exact ⟨t, st1.trans a1, b1⟩
theorem xT.sel2 {q ci : Nat} {f : Nat → xM α} {L : List (Nat × (Nat → xM α))} (K1 : xT x emb pc lv q (xsel (some q) [(ci, f)])) (K2 : xT x emb pc lv q (xsel (some q) L)) : xT x emb pc lv q (xsel (some q) ((ci, f) :: L)) := by
  obtain ⟨p, l, e, R, s, m, args, below, meth, c, D, s0, Γ, nL, b0⟩ := x
  intro h n o h' dc ds he
  have key : xsel (some q) ((ci, f) :: L) Γ h n = xsel (some q) [(ci, f)] Γ h n ∨ xsel (some q) ((ci, f) :: L) Γ h n = xsel (some q) L Γ h n := by
    unfold xsel
    cases ho : xobj h (some q) with
    | none => exact Or.inl rfl
    | some z =>
      obtain ⟨a, c', fs⟩ := z
      by_cases hc : c' = ci
      · subst hc
        left
        simp [List.lookup]
      · have hc' : (c' == ci) = false := by simpa using hc
        right
        simp [List.lookup, hc']
  rcases key with key | key
  · exact K1 h n o h' dc ds (by rw [← key]; exact he)
  · exact K2 h n o h' dc ds (by rw [← key]; exact he)
/-- athrow under a handler -/
theorem xr_throwT {r : Option Nat} {k3 : Nat → xM α} (F : xF x own cc ret) (hd : decode cc pc = .ok (.athrow, 1)) (K : ∀ q, xT x emb pc lv q (k3 q)) : xI x emb pc lv (va_rf r :: st) (xnn r k3) := by
  obtain ⟨p, l, e, R, s, m, args, below, meth, c, D, s0, Γ, nL, b0⟩ := x
  intro h n o h' dc ds he H locs cells slots ls hR hlv hL h1 h2
  unfold xnn at he
  split at he
  · rename_i a
    exact vx_athrow F.1 F.2.1 hd (K a h n o h' dc ds he H locs cells slots ls st hR hlv hL h1 h2)
  · cases he
theorem xno_of {hh : List (Nat × Nat × Nat × Nat)} (htb : x.2.2.2.2.2.2.2.2.2.1.exceptionTable.toList = tableOf hh) (hall : (tableOf hh).all (fun x => !covers x pc) = true) : xNo x pc := outside_of_table htb hall
end XT1
