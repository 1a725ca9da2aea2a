/-! part 09: rows of xI for calls -/
/-- what a call's run gives -/
def xRun {β : Type} (x : xC) (H : Heap) (locs : List Loc) (cells slots : Nat) (pc len : Nat) (ls : Array Slot) (st0 st : List Value) (embb : β → Option Value) (cmc : xM β) (h : xH) (n : Nat) : Prop := match x with
  | (p, l, e, R, s, m, args, below, meth, c, D, s0, Γ, _, _) => ∀ (ob : β ⊕ Nat) (hb : xH) (dcb dsb : Nat), cmc Γ h n = some (ob, hb, dcb, dsb) → cells + dcb ≤ R.cells → slots + dsb ≤ R.slots →
    ∀ T : State, T.heap = H → Stand p l e R s m args below meth c T locs cells slots →
    (∃ (v : Option Value) (vm₁ : Vm) (B : Pt) (a : Array Value), s.WarmedH vm₁ ∧ Stand p l e R s m args below meth c B.U B.locs B.cells B.slots ∧ xPost D s0 embb ob hb (n + dcb) dcb dsb ⟨T.setVm vm₁, locs, cells, slots⟩ a v B ∧ ∀ target, Steps p.tables e below (B.U.setTop (F0 m (pc + len) ls (v.toList ++ st))) target → Steps p.tables e below (T.setTop (F0 m pc ls st0)) target) ∨
    (∃ (q : Addr) (vm₁ : Vm) (B : Pt) (a : Array Value), s.WarmedH vm₁ ∧ Stand p l e R s m args below meth c B.U B.locs B.cells B.slots ∧ xPostX D s0 ob hb (n + dcb) dcb dsb ⟨T.setVm vm₁, locs, cells, slots⟩ a q B ∧ Steps p.tables e below (T.setTop (F0 m pc ls st0)) ((B.U.setTop (F0 m pc ls st)).pushFrame (.throwing q)))
/-- no handler at pc -/
def xNo (x : xC) (pc : Nat) : Prop := ∀ z ∈ x.2.2.2.2.2.2.2.2.2.1.exceptionTable.toList, covers z pc = false
/-- frames and locals that are left -/
def xRoom (x : xC) (fr lo : Nat) : Prop := fr ≤ x.2.2.2.1.frames ∧ lo ≤ x.2.2.2.1.locals
section XCR
variable {α β : Type} {x : xC} {emb : α → Option Value} {embb : β → Option Value} {own : String} {cc : ByteArray} {ret : Option FieldType} {pc : Nat} {lv lv' : List (Nat × Value)} {st st0 : List Value} {cmc : xM β} {kk : β → xM α}
theorem xI.call (len : Nat) (F : xF x own cc ret) (hno : xNo x pc)
    (hrun : ∀ (H : Heap) (locs : List Loc) (cells slots : Nat) (ls : Array Slot) (h : xH) (n : Nat), xR x.2.2.2.2.2.2.2.2.2.2.1 x.2.2.2.2.2.2.2.2.2.2.2.1 h n H → lv_has ls (xnL x) lv → xRun x H locs cells slots pc len ls st0 st embb cmc h n)
    (K : ∀ r, xI x emb (pc + len) lv ((embb r).toList ++ st) (kk r)) : xI x emb pc lv st0 (xbind cmc kk) := by
  obtain ⟨p, l, e, R, s, m, args, below, meth, c, D, s0, Γ, nL, b0⟩ := x
  intro h n o h' dc ds he H locs cells slots ls hR hlv hL h1 h2
  have hrun := hrun H locs cells slots ls h n hR hlv
  have hlk := F.2.2.2.2.1
  rcases xbind_some he with ⟨u, hb, c1, s1, r', h2', c2, s2, hf, hkk, hz⟩ | ⟨q, hb, c1, s1, hf, hz⟩
  · cases hz
    intro T hT X
    rcases hrun _ _ _ _ hf (by omega) (by omega) T hT X with ⟨v, vm₁, B, a, hW, X', hp, st⟩ | ⟨q, vm₁, B, a, hW, X', hp, st⟩
    · obtain ⟨⟨r, hr, rfl⟩, hR2, ⟨L, hL1, hL2⟩, hc1, hc2⟩ := hp
      cases hr
      have K2 := K u hb (n + c1) o h' c2 s2 hkk B.U.heap (locs ++ L) (cells + c1) (slots + s1) ls hR2 hlv (fun q hq => by
        rcases List.mem_append.mp hq with g | g
        · exact hL q g
        · exact hL2 q g) (by omega) (by omega)
      obtain ⟨U, l2, q3, q4⟩ := B
      dsimp only [Pt.U, Pt.locs, Pt.cells, Pt.slots] at *
      subst hL1; subst hc1; subst hc2
      obtain ⟨t, a1, b1⟩ := K2 U rfl X'
      have e1 : n + (c1 + c2) = n + c1 + c2 := by omega
      have e2 : cells + (c1 + c2) = cells + c1 + c2 := by omega
      have e3 : slots + (s1 + s2) = slots + s1 + s2 := by omega
      rw [e1, e2, e3]
      exact ⟨t, st t a1, b1⟩
    · exact absurd hp.1 (by simp)
  · cases hz
    intro T hT X
    rcases hrun _ _ _ _ hf (by omega) (by omega) T hT X with ⟨v, vm₁, B, a, hW, X', hp, st⟩ | ⟨q', vm₁, B, a, hW, X', hp, st⟩
    · obtain ⟨⟨r, hr, rfl⟩, -⟩ := hp
      cases hr
    · obtain ⟨hq, hR2, ⟨L, hL1, hL2⟩, hc1, hc2⟩ := hp
      cases hq
      obtain ⟨U, l2, q3, q4⟩ := B
      dsimp only [Pt.U, Pt.locs, Pt.cells, Pt.slots] at *
      subst hL1; subst hc1; subst hc2
      obtain ⟨st1, hrun2, hend, hW2, hsm⟩ := X'.leaveThrown q (g := F0 m pc ls _) rfl rfl rfl hno hlk
      refine ⟨_, st.trans st1, .threw q, hrun2, hend, rfl, hR2, locs ++ L, hW2, hsm, fun q hq => ?_⟩
      rcases List.mem_append.mp hq with g | g
      · exact hL q g
      · exact hL2 q g
end XCR
section XCW
variable {α β : Type} {emb : α → Option Value} {embb : β → Option Value} {own : String} {cc : ByteArray} {ret : Option FieldType} {pc : Nat} {lv lv' : List (Nat × Value)} {st st0 : List Value} {cmc : xM β} {kk : β → xM α}
variable {p : Program} {l : Launch} {e : Env} {R : Room} {s : State} {m : MethodId} {args : Array Value} {below : List Frame} {meth : Method} {c : Code} {D : xD} {s0 : State} {Γ : Nat → Option Nat} {nL b0 : Nat}
theorem xbk (F : xF (p, l, e, R, s, m, args, below, meth, c, D, s0, Γ, nL, b0) own cc ret) {y : MethodName} {bytes : ByteArray} {maxL fr lo len : Nat} {rety : Option FieldType} {cw : Cond} {As : List Value} (hM : xMeth l D s0 Γ y cw fr lo As embb cmc) (hcw : xCode y bytes maxL rety cw) (w1 : cw ∈ lw_all) (hroom : fr + 1 ≤ R.frames ∧ 8 + (maxL + 11) + lo ≤ R.locals) {h : xH} {n : Nat} {o : β ⊕ Nat} {h' : xH} {dc ds : Nat} (he : cmc Γ h n = some (o, h', dc, ds)) :
    vx_Back l R p e below s args y len 8 (xPre D s0 R As h n dc ds) (xPost D s0 embb o h' (n + dc) dc ds) (xPostX D s0 o h' (n + dc) dc ds) := by
  refine xback hM he hroom.1 hroom.2 (fun a' U hW => word_at hW (good_of_word (List.mem_filter.mp w1).2) (xwd F w1 (a := args))) (fun U a' mk h1 h2 => ?_)
  obtain ⟨methY, cY, g1, g2, -, g4, -⟩ := hcw.spec h1 h2
  exact ⟨methY, cY, g1, g2, g4⟩
theorem xpr (F : xF (p, l, e, R, s, m, args, below, meth, c, D, s0, Γ, nL, b0) own cc ret) {As : List Value} {h : xH} {n dc ds : Nat} {T : State} {H : Heap} {locs : List Loc} {cells slots : Nat} (hT : T.heap = H) (hR : xR D s0 h n H) (h1 : cells + dc ≤ R.cells) (h2 : slots + ds ≤ R.slots) : ∀ vm₁, s.WarmedH vm₁ → xPre D s0 R As h n dc ds ⟨T.setVm vm₁, locs, cells, slots⟩ As.toArray := by
  intro vm₁ hW
  refine ⟨h1, h2, rfl, State.WarmedH.trans F.2.2.2.2.2.2.2.1 hW, ?_⟩
  show xR D s0 h n T.heap
  rw [hT]
  exact hR
theorem xcls (F : xF (p, l, e, R, s, m, args, below, meth, c, D, s0, Γ, nL, b0) own cc ret) {h : xH} {n a ci : Nat} {H : Heap} {fs : List Value} {w : Bool} (hR : xR D s0 h n H) (ha : h a = some (w, .inr (ci, fs))) {q : vw_C} (hc : xcl[ci]? = some q) : ∃ cell : Cell, H[a]? = some cell ∧ cell.vm.isStatics = false ∧ s.vm.findClass q.1 = some cell.cls ∧ cell.vm ≠ .unknown := by
  obtain ⟨cell, g1, g2, g3, g4, g5, g6⟩ := hR.2.2.2.1 _ _ ha
  obtain ⟨-, -, -, -, -, -, ⟨-, hK, -⟩, hW, -⟩ := F
  refine ⟨cell, g1, g3, ?_, g2⟩
  rw [hW.alike.findClass, g4]
  exact (hK ci q hc).1
end XCW
section XCV
variable {α β : Type} {x : xC} {emb : α → Option Value} {embb : β → Option Value} {own : String} {cc : ByteArray} {ret : Option FieldType} {pc : Nat} {lv lv' : List (Nat × Value)} {st st0 : List Value} {cmc : xM β} {kk : β → xM α}
/-- the contract of a method at this place's launch and start -/
def xMx {β : Type} (x : xC) (y : MethodName) (cw : Cond) (fr lo : Nat) (As : List Value) (embb : β → Option Value) (cmc : xM β) : Prop := xMeth x.2.1 x.2.2.2.2.2.2.2.2.2.2.1 x.2.2.2.2.2.2.2.2.2.2.2.1 x.2.2.2.2.2.2.2.2.2.2.2.2.1 y cw fr lo As embb cmc
/-- invokestatic -/
theorem xr_S {y : MethodName} {bytes : ByteArray} {maxL fr lo idx : Nat} {rety : Option FieldType} {cw : Cond} {As : List Value} (F : xF x own cc ret) (hno : xNo x pc) (hd : decode cc pc = .ok (.invokestatic idx, 3)) (hM : xMx x y cw fr lo As embb cmc) (hcw : xCode y bytes maxL rety cw) (w1 : cw ∈ lw_all) (w2 : Cond.initialized y.cls ∈ lw_all) (w3 : Cond.methodLink own idx y ∈ lw_all ∨ ∃ host, Cond.methodLinkNest own idx y host ∈ lw_tbl) (w4 : Cond.static y ∈ lw_all) (hroom : xRoom x (fr + 1) (8 + (maxL + 11) + lo)) (hy : y.cls ≠ "java/lang/invoke/MethodHandle" ∧ y.cls ≠ "java/lang/invoke/VarHandle") (hlen : ∀ sig, parseMethodDescriptor y.desc = some sig → As.length = sig.parameters.length) (hst : st0 = As.reverse ++ st) (hcat : (st.map fun v => v.category).sum ≤ 8)
    (K : ∀ r, xI x emb (pc + 3) lv ((embb r).toList ++ st) (kk r)) : xI x emb pc lv st0 (xbind cmc kk) := by
  refine xI.call 3 F hno ?_ K
  obtain ⟨p, l, e, R, s, m, args, below, meth, c, D, s0, Γ, nL, b0⟩ := x
  intro H locs cells slots ls h n hR hlv ob hb dcb dsb he h1 h2 T hT X
  have hB := xbk F hM hcw w1 hroom he (len := 3)
  obtain ⟨hx, hbb, hml, hown, -⟩ := id F
  obtain ⟨mk, hnamed⟩ := hcw.named (xwd F w1 (a := args))
  obtain ⟨methM, cM, hmethM, -, -, -, -, -, hsigM⟩ := hcw.spec (xwd F w1 (a := args)) hnamed
  have hstatic : methM.isStatic = true := Cond.static_spec hnamed hmethM (xwd F w4 (a := args))
  obtain ⟨kP, hkP, -⟩ := className_of_methodNamed hnamed
  have hinitP : kP.init = .initialized := Cond.initialized_spec (findClass_of_methodNamed hnamed) hkP (xwd F w2 (a := args))
  have hmono : 2 * (F0 m pc ls st).monitorRoom + ((F0 m pc ls st).stack.map fun v => v.category).sum ≤ 8 := lv_room (m := m) (pc := pc) (ls := ls) (rest := st) hcat
  have hd' : decode c.code pc = .ok (.invokestatic idx, 3) := by rw [hbb]; exact hd
  have key : ∃ vm₁, Stand p l e R s m args below meth c (T.setVm vm₁) locs cells slots ∧ ∀ tg, (∀ acts, Steps p.tables e below (doInvoke e ((T.setVm vm₁).setTop (F0 m pc ls st)) acts mk As.toArray).1 tg) → Steps p.tables e below (T.setTop (F0 m pc ls st0)) tg := by
    rcases w3 with w3 | ⟨host, w3⟩
    · obtain ⟨vm₁, X₁, hstep₁⟩ := X.invokestatic hx hown (xwd F w3 (a := args)) hnamed hmethM hstatic hkP hinitP hy (g := F0 m pc ls st0) rfl (argsL := As) (rest := st) (hlen _ hsigM) hst hd'
      exact ⟨vm₁, X₁, fun tg hh => hstep₁ tg hh⟩
    · obtain ⟨vm₁, X₁, hstep₁⟩ := X.invokestaticNest hx hown (by
        obtain ⟨-, -, -, -, -, -, ⟨hts, -⟩, hW, -⟩ := F
        exact va_Nw.use rfl (va_Nw.warmM hW (va_Nw.of rfl (hts _ w3)))) hnamed hmethM hstatic hkP hinitP hy (g := F0 m pc ls st0) rfl (argsL := As) (rest := st) (hlen _ hsigM) hst hd'
      exact ⟨vm₁, X₁, fun tg hh => hstep₁ tg hh⟩
  obtain ⟨vm₁, X₁, hstep₁⟩ := key
  rcases hB m meth c ⟨T.setVm vm₁, locs, cells, slots⟩ (F0 m pc ls st) (.invokestatic idx) mk As.toArray X₁ rfl (hlv.1.trans hml.symm) hd' hmono (X₁.named hnamed) (xpr F hT hR h1 h2 vm₁ X₁.warmed) with ⟨v, B, X', hpost, hsteps⟩ | ⟨q, B, X', hpost, hsteps⟩
  · exact Or.inl ⟨v, vm₁, B, As.toArray, X₁.warmed, X', hpost, fun target hh => hstep₁ _ fun acts => by rw [doInvoke_state]; exact hsteps.trans hh⟩
  · exact Or.inr ⟨q, vm₁, B, As.toArray, X₁.warmed, X', hpost, hstep₁ _ fun acts => by rw [doInvoke_state]; exact hsteps⟩
end XCV
