/-! part 10: virtual, interface, special calls -/
theorem xsel_some {α : Type} {r : Option Nat} {ci : Nat} {f : Nat → xM α} {Γ : Nat → Option Nat} {h : xH} {n : Nat} {z : (α ⊕ Nat) × xH × Nat × Nat} (e : xsel r [(ci, f)] Γ h n = some z) : ∃ a w fs, r = some a ∧ h a = some (w, .inr (ci, fs)) ∧ f a Γ h n = some z := by
  unfold xsel at e
  split at e
  · rename_i a c fs ho
    obtain ⟨rfl, w, ha⟩ := xobj_some ho
    by_cases hc : c = ci
    · subst hc
      simp [List.lookup] at e
      exact ⟨a, w, fs, rfl, ha, e⟩
    · have hc' : (c == ci) = false := by simpa using hc
      simp [List.lookup, hc'] at e
  · cases e
section XV
variable {α β : Type} {x : xC} {emb : α → Option Value} {embb : β → Option Value} {own : String} {cc : ByteArray} {ret : Option FieldType} {pc : Nat} {lv lv' : List (Nat × Value)} {st st0 : List Value} {kk : β → xM α}
theorem xI.sel2 {r : Option Nat} {ci : Nat} {f : Nat → xM β} {L : List (Nat × (Nat → xM β))} (K1 : xI x emb pc lv st0 (xbind (xsel r [(ci, f)]) kk)) (K2 : xI x emb pc lv st0 (xbind (xsel r L) kk)) : xI x emb pc lv st0 (xbind (xsel r ((ci, f) :: L)) kk) := by
  obtain ⟨p, l, e, R, s, m, args, below, meth, c, D, s0, Γ, nL, b0⟩ := x
  intro h n o h' dc ds he
  have key : xsel r ((ci, f) :: L) Γ h n = xsel r [(ci, f)] Γ h n ∨ xsel r ((ci, f) :: L) Γ h n = xsel r L Γ h n := by
    unfold xsel
    cases ho : xobj h r with
    | none => exact Or.inl rfl
    | some z =>
      obtain ⟨a, c', fs⟩ := z
      by_cases hc : c' = ci
      · subst hc
        left
        simp [List.lookup]
      · have hc' : (c' == ci) = false := by simpa using hc
        right
        simp [List.lookup, hc']
  rcases key with key | key
  · exact K1 h n o h' dc ds (by unfold xbind at he ⊢; rw [← key]; exact he)
  · exact K2 h n o h' dc ds (by unfold xbind at he ⊢; rw [← key]; exact he)
/-- invokevirtual, the method found as it is spelt -/
theorem xr_V {y : MethodName} {bytes : ByteArray} {maxL fr lo idx ci : Nat} {rety : Option FieldType} {cw : Cond} {As : List Value} {C : String} {T : u_T} {N : Nat} {r : Option Nat} {f : Nat → xM β} (F : xF x own cc ret) (hno : xNo x pc) (hd : decode cc pc = .ok (.invokevirtual idx, 3)) (hM : ∀ a, xMx x y cw fr lo (.ref a :: As) embb (f a)) (hcw : xCode y bytes maxL rety cw) (hc : xcl[ci]? = some (C, T, N)) (w1 : cw ∈ lw_all) (w3 : Cond.methodLink own idx y ∈ lw_all) (w4 : Cond.instanceMethod y ∈ lw_all) (w5 : Cond.selects C y y ∈ lw_all) (hroom : xRoom x (fr + 1) (8 + (maxL + 11) + lo)) (hy : y.cls ≠ "java/lang/invoke/MethodHandle" ∧ y.cls ≠ "java/lang/invoke/VarHandle") (hlen : ∀ sig, parseMethodDescriptor y.desc = some sig → As.length = sig.parameters.length) (hst : st0 = As.reverse ++ va_rf r :: st) (hcat : (st.map fun v => v.category).sum ≤ 8)
    (K : ∀ r, xI x emb (pc + 3) lv ((embb r).toList ++ st) (kk r)) : xI x emb pc lv st0 (xbind (xsel r [(ci, f)]) kk) := by
  refine xI.call 3 F hno ?_ K
  obtain ⟨p, l, e, R, s, m, args, below, meth, c, D, s0, Γ, nL, b0⟩ := x
  intro H locs cells slots ls h n hR hlv ob hb dcb dsb he h1 h2 Ts hT X
  obtain ⟨a, w, fs, rfl, ha, he⟩ := xsel_some he
  have hB := xbk F (hM a) hcw w1 hroom he (len := 3)
  obtain ⟨hx, hbb, hml, hown, -⟩ := id F
  obtain ⟨cellB, hcell, hobj, hcls, -⟩ := xcls F hR ha hc
  have hmono : 2 * (F0 m pc ls st).monitorRoom + ((F0 m pc ls st).stack.map fun v => v.category).sum ≤ 8 := lv_room (m := m) (pc := pc) (ls := ls) (rest := st) hcat
  have hd' : decode c.code pc = .ok (.invokevirtual idx, 3) := by rw [hbb]; exact hd
  obtain ⟨mk, methM, hnamed, hmethM, hstM, habM⟩ := Cond.instanceMethod_spec (xwd F w4 (a := args))
  obtain ⟨methM', cM, hmethM', -, -, -, -, -, hsigM⟩ := hcw.spec (xwd F w1 (a := args)) hnamed
  cases hmethM.symm.trans hmethM'
  obtain ⟨c2, r2, m2, q1, q2, q3, q4, kP, hkP, hkPi⟩ := Cond.selects_spec (xwd F w5 (a := args))
  cases hcls.symm.trans q1
  cases (State.methodFound?_of_named hnamed hy).symm.trans q2
  cases hnamed.symm.trans q3
  have hselP : selectMethod e.platform s.vm cellB.cls mk = .method mk := by rw [Launch.admits_selectMethod X.admits]; exact q4
  obtain ⟨vm₁, X₁, hstep₁⟩ := X.invokevirtual hx hown (xwd F w3 (a := args)) hnamed hmethM hstM hkP hkPi hy (a := a) (cell := cellB) (by rw [hT]; exact hcell)
    (fun z h => by rw [h] at hobj; cases hobj) hselP hmethM habM hkP hkPi (g := F0 m pc ls st0) rfl (argsL := As) (rest := st) (hlen _ hsigM) hst hd'
  rcases hB m meth c ⟨Ts.setVm vm₁, locs, cells, slots⟩ (F0 m pc ls st) (.invokevirtual idx) mk (Value.ref a :: As).toArray X₁ rfl (hlv.1.trans hml.symm) hd' hmono (X₁.named hnamed) (xpr F hT hR h1 h2 vm₁ X₁.warmed) with ⟨v, B, X', hpost, hsteps⟩ | ⟨q, B, X', hpost, hsteps⟩
  · exact Or.inl ⟨v, vm₁, B, _, X₁.warmed, X', hpost, fun target hh => hstep₁ _ fun acts => by rw [doInvoke_state]; exact hsteps.trans hh⟩
  · exact Or.inr ⟨q, vm₁, B, _, X₁.warmed, X', hpost, hstep₁ _ fun acts => by rw [doInvoke_state]; exact hsteps⟩
/-- invokevirtual, the method spelt x and declared by owner, selected y -/
theorem xr_U {x0 y : MethodName} {owner : String} {bytes : ByteArray} {maxL fr lo idx ci : Nat} {rety : Option FieldType} {cw : Cond} {As : List Value} {C : String} {T : u_T} {N : Nat} {r : Option Nat} {f : Nat → xM β} (F : xF x own cc ret) (hno : xNo x pc) (hd : decode cc pc = .ok (.invokevirtual idx, 3)) (hM : ∀ a, xMx x y cw fr lo (.ref a :: As) embb (f a)) (hcw : cw = Cond.code y bytes maxL rety) (hc : xcl[ci]? = some (C, T, N)) (w1 : cw ∈ lw_all) (w3 : Cond.methodLink own idx x0 ∈ lw_all) (w4 : Cond.instanceMethod y ∈ lw_all) (w5 : Cond.selects C x0 y ∈ lw_all) (w6 : Cond.sameMethod x0.cls owner x0.name x0.desc ∈ lw_all) (w7 : (∃ b m r, Cond.code ⟨owner, x0.name, x0.desc⟩ b m r ∈ lw_all ∧ Cond.instanceMethod ⟨owner, x0.name, x0.desc⟩ ∈ lw_all) ∨ Cond.declares ⟨owner, x0.name, x0.desc⟩ ∈ lw_tbl) (hroom : xRoom x (fr + 1) (8 + (maxL + 11) + lo)) (ho : owner ≠ "java/lang/invoke/MethodHandle" ∧ owner ≠ "java/lang/invoke/VarHandle") (hlen : ∀ sig, parseMethodDescriptor x0.desc = some sig → As.length = sig.parameters.length) (hst : st0 = As.reverse ++ va_rf r :: st) (hcat : (st.map fun v => v.category).sum ≤ 8)
    (K : ∀ r, xI x emb (pc + 3) lv ((embb r).toList ++ st) (kk r)) : xI x emb pc lv st0 (xbind (xsel r [(ci, f)]) kk) := by
  refine xI.call 3 F hno ?_ K
  obtain ⟨p, l, e, R, s, m, args, below, meth, c, D, s0, Γ, nL, b0⟩ := x
  intro H locs cells slots ls h n hR hlv ob hb dcb dsb he h1 h2 Ts hT X
  obtain ⟨a, w, fs, rfl, ha, he⟩ := xsel_some he
  have hB := xbk F (hM a) (Or.inl hcw) w1 hroom he (len := 3)
  obtain ⟨hx, hbb, hml, hown, -⟩ := id F
  obtain ⟨cellB, hcell, hobj, hcls, -⟩ := xcls F hR ha hc
  have hmono : 2 * (F0 m pc ls st0).monitorRoom + (st.map fun v => v.category).sum ≤ 8 := lv_room (m := m) (pc := pc) (ls := ls) (rest := st0) hcat
  have hd0 : va_Decl s ⟨owner, x0.name, x0.desc⟩ := by
    rcases w7 with ⟨b, mm, rr, w7, w8⟩ | w7
    · exact va_Decl.of (xwd F w8 (a := args)) (xwd F w7 (a := args))
    · obtain ⟨-, -, -, -, -, -, ⟨hts, -⟩, hW, -⟩ := F
      exact va_Decl.abs (va_Nw.warmD hW (va_Nw.of rfl (hts _ w7)))
  subst hcw
  rcases vx_callVU X hx hown (xwd F w3) (xwd F w6) hd0 ho (xwd F w5) (xwd F w4) (xwd F w1) hB (by rw [hT]; exact hcell) hobj hcls (g := F0 m pc ls st0) rfl (hlv.1.trans hml.symm) (argsL := As) (rest := st) hlen hst hmono (by rw [hbb]; exact hd) (xpr F hT hR h1 h2) with ⟨v, vm₁, B, hW, X', hpost, hsteps⟩ | ⟨q, vm₁, B, hW, X', hpost, hsteps⟩
  · exact Or.inl ⟨v, vm₁, B, _, hW, X', hpost, hsteps⟩
  · exact Or.inr ⟨q, vm₁, B, _, hW, X', hpost, hsteps⟩
/-- invokeinterface -/
theorem xr_F {x0 y : MethodName} {bytes : ByteArray} {maxL fr lo idx cnt ci : Nat} {rety : Option FieldType} {cw : Cond} {As : List Value} {C : String} {T : u_T} {N : Nat} {r : Option Nat} {f : Nat → xM β} (F : xF x own cc ret) (hno : xNo x pc) (hd : decode cc pc = .ok (.invokeinterface idx cnt, 5)) (hM : ∀ a, xMx x y cw fr lo (.ref a :: As) embb (f a)) (hcw : cw = Cond.code y bytes maxL rety) (hc : xcl[ci]? = some (C, T, N)) (w1 : cw ∈ lw_all) (w3 : Cond.methodLink own idx x0 ∈ lw_all) (w4 : Cond.instanceMethod y ∈ lw_all) (w5 : Cond.selects C x0 y ∈ lw_all) (w6 : Cond.declares x0 ∈ lw_tbl) (w7 : Cond.interfaceMethod x0.cls x0.cls x0.name x0.desc ∈ lw_tbl) (w8 : Cond.publicMethod y ∈ lw_tbl) (w9 : Cond.unhidden C x0.name x0.desc ∈ lw_tbl) (w10 : Cond.castable C x0.cls ∈ lw_tbl) (hroom : xRoom x (fr + 1) (8 + (maxL + 11) + lo)) (hy : x0.cls ≠ "java/lang/invoke/MethodHandle" ∧ x0.cls ≠ "java/lang/invoke/VarHandle") (hlen : ∀ sig, parseMethodDescriptor x0.desc = some sig → As.length = sig.parameters.length) (hst : st0 = As.reverse ++ va_rf r :: st) (hcat : (st.map fun v => v.category).sum ≤ 8)
    (K : ∀ r, xI x emb (pc + 5) lv ((embb r).toList ++ st) (kk r)) : xI x emb pc lv st0 (xbind (xsel r [(ci, f)]) kk) := by
  refine xI.call 5 F hno ?_ K
  obtain ⟨p, l, e, R, s, m, args, below, meth, c, D, s0, Γ, nL, b0⟩ := x
  intro H locs cells slots ls h n hR hlv ob hb dcb dsb he h1 h2 Ts hT X
  obtain ⟨a, w, fs, rfl, ha, he⟩ := xsel_some he
  have hB := xbk F (hM a) (Or.inl hcw) w1 hroom he (len := 5)
  obtain ⟨hx, hbb, hml, hown, -⟩ := id F
  obtain ⟨cellB, hcell, hobj, hcls, -⟩ := xcls F hR ha hc
  have hmono : 2 * (F0 m pc ls st0).monitorRoom + (st.map fun v => v.category).sum ≤ 8 := lv_room (m := m) (pc := pc) (ls := ls) (rest := st0) hcat
  have hF : va_Fw C x0 y s := by
    obtain ⟨-, -, -, -, -, -, ⟨hts, -⟩, hW, -⟩ := F
    exact va_Fw.moved hy hW.alike (va_Fw.of (hts _ w6) (hts _ w7) (hts _ w8) (hts _ w9) (hts _ w10))
  subst hcw
  obtain ⟨kB, hkB, -⟩ := Vm.findClass_spec hcls
  rcases vx_callIF X hx hown (xwd F w3) (va_any rfl hF.1) (va_any rfl hF.2.1) (xwd F w5) (xwd F w4) (va_any rfl hF.2.2.1) (va_any rfl hF.2.2.2.1) (va_any rfl hF.2.2.2.2) (xwd F w1) hy hB (by rw [hT]; exact hcell) hobj hcls hkB (g := F0 m pc ls st0) rfl (hlv.1.trans hml.symm) (argsL := As) (rest := st) hlen hst hmono (by rw [hbb]; exact hd) (xpr F hT hR h1 h2) with ⟨v, vm₁, B, hW, X', hpost, hsteps⟩ | ⟨q, vm₁, B, hW, X', hpost, hsteps⟩
  · exact Or.inl ⟨v, vm₁, B, _, hW, X', hpost, hsteps⟩
  · exact Or.inr ⟨q, vm₁, B, _, hW, X', hpost, hsteps⟩
/-- invokespecial of a constructor -/
theorem xr_I {y : MethodName} {bytes : ByteArray} {maxL fr lo idx : Nat} {cw : Cond} {As : List Value} {a : Nat} {cmc : xM β} (F : xF x own cc ret) (hno : xNo x pc) (hd : decode cc pc = .ok (.invokespecial idx, 3)) (hM : xMx x y cw fr lo (.ref a :: As) embb cmc) (hcw : cw = Cond.code y bytes maxL none) (hin : y.name = "<init>") (w1 : cw ∈ lw_all) (w3 : Cond.methodLink own idx y ∈ lw_all ∨ ∃ host, Cond.methodLinkNest own idx y host ∈ lw_tbl) (w4 : Cond.instanceMethod y ∈ lw_all) (hroom : xRoom x (fr + 1) (8 + (maxL + 11) + lo)) (hy : y.cls ≠ "java/lang/invoke/MethodHandle" ∧ y.cls ≠ "java/lang/invoke/VarHandle") (hlen : ∀ sig, parseMethodDescriptor y.desc = some sig → As.length = sig.parameters.length) (hst : st0 = As.reverse ++ .ref a :: st) (hcat : (st.map fun v => v.category).sum ≤ 8)
    (K : ∀ r, xI x emb (pc + 3) lv ((embb r).toList ++ st) (kk r)) : xI x emb pc lv st0 (xbind cmc kk) := by
  refine xI.call 3 F hno ?_ K
  obtain ⟨p, l, e, R, s, m, args, below, meth, c, D, s0, Γ, nL, b0⟩ := x
  intro H locs cells slots ls h n hR hlv ob hb dcb dsb he h1 h2 Ts hT X
  have hB := xbk F hM (Or.inl hcw) w1 hroom he (len := 3)
  obtain ⟨hx, hbb, hml, hown, -⟩ := id F
  have hmono : 2 * (F0 m pc ls st0).monitorRoom + (st.map fun v => v.category).sum ≤ 8 := lv_room (m := m) (pc := pc) (ls := ls) (rest := st0) hcat
  subst hcw
  have key : (∃ (v : Option Value) (vm₁ : Vm) (B : Pt), s.WarmedH vm₁ ∧ Stand p l e R s m args below meth c B.U B.locs B.cells B.slots ∧ xPost D s0 embb ob hb (n + dcb) dcb dsb ⟨Ts.setVm vm₁, locs, cells, slots⟩ (Value.ref a :: As).toArray v B ∧
      ∀ target, Steps p.tables e below (B.U.setTop (F0 m (pc + 3) ls (v.toList ++ st))) target → Steps p.tables e below (Ts.setTop (F0 m pc ls st0)) target) ∨
    (∃ (q : Addr) (vm₁ : Vm) (B : Pt), s.WarmedH vm₁ ∧ Stand p l e R s m args below meth c B.U B.locs B.cells B.slots ∧ xPostX D s0 ob hb (n + dcb) dcb dsb ⟨Ts.setVm vm₁, locs, cells, slots⟩ (Value.ref a :: As).toArray q B ∧
      Steps p.tables e below (Ts.setTop (F0 m pc ls st0)) ((B.U.setTop (F0 m pc ls st)).pushFrame (.throwing q))) := by
    rcases w3 with w3 | ⟨host, w3⟩
    · exact vx_callI X hx hown hin (xwd F w3) (xwd F w4) (xwd F w1) hy hB (g := F0 m pc ls st0) rfl (hlv.1.trans hml.symm) (argsL := As) (rest := st) hlen hst hmono (by rw [hbb]; exact hd) (xpr F hT hR h1 h2)
    · exact vx_callIN X hx hown hin (by
        obtain ⟨-, -, -, -, -, -, ⟨hts, -⟩, hW, -⟩ := F
        exact va_Nw.use rfl (va_Nw.warmM hW (va_Nw.of rfl (hts _ w3)))) (xwd F w4) (xwd F w1) hy hB (g := F0 m pc ls st0) rfl (hlv.1.trans hml.symm) (argsL := As) (rest := st) hlen hst hmono (by rw [hbb]; exact hd) (xpr F hT hR h1 h2)
  rcases key with ⟨v, vm₁, B, hW, X', hpost, hsteps⟩ | ⟨q, vm₁, B, hW, X', hpost, hsteps⟩
  · exact Or.inl ⟨v, vm₁, B, _, hW, X', hpost, hsteps⟩
  · exact Or.inr ⟨q, vm₁, B, _, hW, X', hpost, hsteps⟩
/-- Object's constructor -/
theorem xr_obj {idx : Nat} {a : Nat} {cm : xM α} (F : xF x own cc ret) (hd : decode cc pc = .ok (.invokespecial idx, 3)) (w1 : Cond.methodLink own idx Lib.objectInit ∈ lw_all) (w2 : Cond.instanceMethod Lib.objectInit ∈ lw_all) (w3 : Cond.code Lib.objectInit ⟨#[0xb1]⟩ 1 none ∈ lw_all) (hroom : xRoom x 1 20) (hcat : (st.map fun v => v.category).sum ≤ 8)
    (k : xI x emb (pc + 3) lv st cm) : xI x emb pc lv (.ref a :: st) cm := by
  refine xI.go ?_ k
  obtain ⟨p, l, e, R, s, m, args, below, meth, c, D, s0, Γ, nL, b0⟩ := x
  have W1 := xwd F w1 (a := args)
  have W2 := xwd F w2 (a := args)
  have W3 := xwd F w3 (a := args)
  obtain ⟨hx, hb, hml, hown, -⟩ := F
  intro H locs cells slots Q ls h kk
  have hr1 : 1 ≤ R.frames := hroom.1
  have hr2 : 20 ≤ R.locals := hroom.2
  have hmono : 2 * (F0 m pc ls st).monitorRoom + (st.map fun v => v.category).sum ≤ 8 := lv_room (m := m) (pc := pc) (ls := ls) (rest := st) hcat
  exact W.objInit hx hb hown W1 W2 W3 (g := F0 m pc ls (.ref a :: st)) rfl (by rw [hml]; exact h.1) rfl hd hr1 (by
    have e1 : (F0 m pc ls (.ref a :: st)).monitorRoom = (F0 m pc ls st).monitorRoom := rfl
    rw [e1]; omega) (kk ls h)
/-- super.method(..) -/
theorem xr_SU {y : MethodName} {bytes : ByteArray} {maxL fr lo idx ci : Nat} {rety : Option FieldType} {cw : Cond} {As : List Value} {r : Option Nat} {f : Nat → xM β} {C : String} {T : u_T} {N : Nat} (F : xF x own cc ret) (hno : xNo x pc) (hd : decode cc pc = .ok (.invokespecial idx, 3)) (hM : ∀ a, xMx x y cw fr lo (.ref a :: As) embb (f a)) (hcw : cw = Cond.code y bytes maxL rety) (hc : xcl[ci]? = some (C, T, N)) (hin : y.name ≠ "<init>") (w1 : cw ∈ lw_all) (w3 : Cond.methodLink own idx y ∈ lw_all) (w4 : Cond.instanceMethod y ∈ lw_all) (w5 : Cond.sameMethod y.cls y.cls y.name y.desc ∈ lw_all) (w6 : Cond.superclass own y.cls ∈ lw_all) (hroom : xRoom x (fr + 1) (8 + (maxL + 11) + lo)) (hlen : ∀ sig, parseMethodDescriptor y.desc = some sig → As.length = sig.parameters.length) (hst : st0 = As.reverse ++ va_rf r :: st) (hcat : (st.map fun v => v.category).sum ≤ 8)
    (K : ∀ r, xI x emb (pc + 3) lv ((embb r).toList ++ st) (kk r)) : xI x emb pc lv st0 (xbind (xsel r [(ci, f)]) kk) := by
  refine xI.call 3 F hno ?_ K
  obtain ⟨p, l, e, R, s, m, args, below, meth, c, D, s0, Γ, nL, b0⟩ := x
  intro H locs cells slots ls h n hR hlv ob hb dcb dsb he h1 h2 Ts hT X
  obtain ⟨a, w, fs, rfl, ha, he⟩ := xsel_some he
  have hB := xbk F (hM a) (Or.inl hcw) w1 hroom he (len := 3)
  obtain ⟨hx, hbb, hml, hown, -⟩ := id F
  obtain ⟨cellB, hcell, hobj, hcls, -⟩ := xcls F hR ha hc
  obtain ⟨kB, hkB, -⟩ := Vm.findClass_spec hcls
  have hmono : 2 * (F0 m pc ls st0).monitorRoom + (st.map fun v => v.category).sum ≤ 8 := lv_room (m := m) (pc := pc) (ls := ls) (rest := st0) hcat
  subst hcw
  rcases vx_callSU X hx hown (xwd F w3) (xwd F w5) (xwd F w6) (xwd F w4) (xwd F w1) hin hB (by rw [hT]; exact hcell) hobj hkB (g := F0 m pc ls st0) rfl (hlv.1.trans hml.symm) (argsL := As) (rest := st) hlen hst hmono (by rw [hbb]; exact hd) (xpr F hT hR h1 h2) with ⟨v, vm₁, B, hW, X', hpost, hsteps⟩ | ⟨q, vm₁, B, hW, X', hpost, hsteps⟩
  · exact Or.inl ⟨v, vm₁, B, _, hW, X', hpost, hsteps⟩
  · exact Or.inr ⟨q, vm₁, B, _, hW, X', hpost, hsteps⟩
end XV
