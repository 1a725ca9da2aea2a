/-! part 19j: the call of a lambda's object -/
section XL4
variable {α β : Type} {x : xC} {emb : α → Option Value} {embb : β → Option Value} {cc : ByteArray} {ret : Option FieldType} {pc : Nat} {lv lv' : List (Nat × Value)} {st st0 : List Value} {cmc : xM β} {kk : β → xM α}
theorem xwdL {p : Program} {l : Launch} {e : Env} {R : Room} {s : State} {m : MethodId} {args : Array Value} {below : List Frame} {meth : Method} {c : Code} {D : xD} {s0 : State} {Γ : Nat → Option Nat} {nL b0 : Nat} (F : xFL (p, l, e, R, s, m, args, below, meth, c, D, s0, Γ, nL, b0) cc ret) {w : Cond} (h : w ∈ lw_all) {a : Array Value} : w.before a s = true := by
  obtain ⟨-, -, -, -, -, ⟨hts, -⟩, hW⟩ := F
  exact word_at hW (good_of_word (List.mem_filter.mp h).2) (hts w (lw_all_tbl h))
/-- what the forwarder's class knows: its fields, the method that it calls -/
def xRdy (x : xC) (fs : List (Nat × Nat)) (M : Nat) (yi : MethodName) : Prop := match x with
  | (_, _, e, _, s, m, _, _, _, _, _, _, _, _, _) => (∀ (U : State), s.WarmedH U.vm → ∀ (fi i : Nat), (fi, i) ∈ fs → ∃ f0 : Field, U.vm.fieldReady m.cls fi m.cls f0 ∧ f0.isStatic = false ∧ f0.slot = i) ∧ ∀ (U : State), s.WarmedH U.vm → ∀ t : MethodId, U.methodNamed? yi = some t → U.vm.methodReady m.cls M t ∧ plainRef U e m.cls M
theorem xget_some {ci k : Nat} {r : Option Nat} {Γ : Nat → Option Nat} {h : xH} {n : Nat} {z : (Value ⊕ Nat) × xH × Nat × Nat} (e : xget ci k r Γ h n = some z) : ∃ a w fs v, r = some a ∧ h a = some (w, .inr (ci, fs)) ∧ fs[k]? = some v ∧ z = (.inl v, h, 0, 0) := by
  unfold xget at e
  split at e
  · rename_i a c fs ho
    obtain ⟨rfl, w, ha⟩ := xobj_some ho
    split at e
    · rename_i hc
      subst hc
      split at e
      · rename_i v hv
        cases e
        exact ⟨a, w, fs, v, rfl, ha, hv, rfl⟩
      · cases e
    · cases e
  · cases e
theorem xl_get {k fi i a M : Nat} {yi : MethodName} {fs : List (Nat × Nat)} {kk : Value → xM α} (F : xFL x cc ret) (hd : decode cc pc = .ok (.getfield fi, 3)) (hr : xRdy x fs M yi) (hm : (fi, i) ∈ fs) (hk : 1000 ≤ k) (K : ∀ v, xI x emb (pc + 3) lv (v :: st) (kk v)) : xI x emb pc lv (va_rf (some a) :: st) (xbind (xget k i (some a)) kk) := by
  obtain ⟨p, l, e, R, s, m, args, below, meth, c, D, s0, Γ, nL, b0⟩ := x
  obtain ⟨hx, hb, -⟩ := F
  intro h n o h' dc ds he H locs cells slots ls hR hlv hL h1 h2
  rcases xbind_some he with ⟨v, h1', c1, s1, r', h2', c2, s2, hf, hkk, hz⟩ | ⟨q, h1', c1, s1, hf, hz⟩
  · obtain ⟨a', w, fs', v', hr1, ha, hv, hz2⟩ := xget_some hf
    cases hr1
    cases hz2
    cases hz
    obtain ⟨cell, g1, g2, g3, g4, g5, g6⟩ := hR.2.2.2.1 _ _ ha
    have hslots : cell.slots[i]? = some v := by
      rcases g6 with ⟨q, hq, -⟩ | ⟨-, hs⟩
      · exfalso
        have := (List.getElem?_eq_some_iff.mp hq).1
        have h9 : xcl.length ≤ 1000 := by decide
        omega
      · rw [hs]
        simpa using hv
    have K2 := K v h n o h' c2 s2 hkk H locs cells slots ls hR hlv hL (by omega) (by omega)
    intro T hT X
    obtain ⟨f0, q1, q2, q3⟩ := hr.1 T X.warmed fi i hm
    obtain ⟨t, a1, b1⟩ := K2 T hT X
    simp only [Nat.zero_add]
    refine ⟨t, ?_, b1⟩
    have hs : T.topJava?.isSome := X.here.top
    jvm_step X.here [hx, hb, hd, getfield.wp_ready (e := e) (s := T) (c := m.cls) (field := f0) (a := a) (rest := st) (cell := cell) (v := v) (f := F0 m pc ls (va_rf (some a) :: st)) hs q1 q2 rfl (by rw [hT]; exact g1) g2 (by rw [q3]; exact hslots)]
    exact a1
  · obtain ⟨a', w, fs', v', hr1, ha, hv, hz2⟩ := xget_some hf
    cases hz2
theorem xI.callL (len : Nat) (hlk : x.2.2.2.2.2.2.2.2.1.locks = false) (hno : xNo x pc)
    (hrun : ∀ (H : Heap) (locs : List Loc) (cells slots : Nat) (ls : Array Slot) (h : xH) (n : Nat), xR x.2.2.2.2.2.2.2.2.2.2.1 x.2.2.2.2.2.2.2.2.2.2.2.1 h n H → lv_has ls (xnL x) lv → xRun x H locs cells slots pc len ls st0 st embb cmc h n)
    (K : ∀ r, xI x emb (pc + len) lv ((embb r).toList ++ st) (kk r)) : xI x emb pc lv st0 (xbind cmc kk) := by
  obtain ⟨p, l, e, R, s, m, args, below, meth, c, D, s0, Γ, nL, b0⟩ := x
  intro h n o h' dc ds he H locs cells slots ls hR hlv hL h1 h2
  have hrun := hrun H locs cells slots ls h n hR hlv
  rcases xbind_some he with ⟨u, hb, c1, s1, r', h2', c2, s2, hf, hkk, hz⟩ | ⟨q, hb, c1, s1, hf, hz⟩
  · cases hz
    intro T hT X
    rcases hrun _ _ _ _ hf (by omega) (by omega) T hT X with ⟨v, vm₁, B, a, hW, X', hp, st⟩ | ⟨q, vm₁, B, a, hW, X', hp, st⟩
    · obtain ⟨⟨r, hr, rfl⟩, hR2, ⟨L, hL1, hL2⟩, hc1, hc2⟩ := hp
      cases hr
      have K2 := K u hb (n + c1) o h' c2 s2 hkk B.U.heap (locs ++ L) (cells + c1) (slots + s1) ls hR2 hlv (fun q hq => by
        rcases List.mem_append.mp hq with g | g
        · exact hL q g
        · exact hL2 q g) (by omega) (by omega)
      obtain ⟨U, l2, q3, q4⟩ := B
      dsimp only [Pt.U, Pt.locs, Pt.cells, Pt.slots] at *
      subst hL1; subst hc1; subst hc2
      obtain ⟨t, a1, b1⟩ := K2 U rfl X'
      have e1 : n + (c1 + c2) = n + c1 + c2 := by omega
      have e2 : cells + (c1 + c2) = cells + c1 + c2 := by omega
      have e3 : slots + (s1 + s2) = slots + s1 + s2 := by omega
      rw [e1, e2, e3]
      exact ⟨t, st t a1, b1⟩
    · exact absurd hp.1 (by simp)
  · cases hz
    intro T hT X
    rcases hrun _ _ _ _ hf (by omega) (by omega) T hT X with ⟨v, vm₁, B, a, hW, X', hp, st⟩ | ⟨q', vm₁, B, a, hW, X', hp, st⟩
    · obtain ⟨⟨r, hr, rfl⟩, -⟩ := hp
      cases hr
    · obtain ⟨hq, hR2, ⟨L, hL1, hL2⟩, hc1, hc2⟩ := hp
      cases hq
      obtain ⟨U, l2, q3, q4⟩ := B
      dsimp only [Pt.U, Pt.locs, Pt.cells, Pt.slots] at *
      subst hL1; subst hc1; subst hc2
      obtain ⟨st1, hrun2, hend, hW2, hsm⟩ := X'.leaveThrown q (g := F0 m pc ls _) rfl rfl rfl hno hlk
      refine ⟨_, st.trans st1, .threw q, hrun2, hend, rfl, hR2, locs ++ L, hW2, hsm, fun q hq => ?_⟩
      rcases List.mem_append.mp hq with g | g
      · exact hL q g
      · exact hL2 q g
/-- the forwarder's call -/
theorem xl_S {yi : MethodName} {bytes : ByteArray} {maxL fr lo M : Nat} {fs : List (Nat × Nat)} {rety : Option FieldType} {cw : Cond} {As : List Value} (F : xFL x cc ret) (hno : xNo x pc) (hr : xRdy x fs M yi) (hd : decode cc pc = .ok (.invokestatic M, 3)) (hM : xMx x yi cw fr lo As embb cmc) (hcw : xCode yi bytes maxL rety cw) (w1 : cw ∈ lw_all) (w2 : Cond.initialized yi.cls ∈ lw_all) (w4 : Cond.static yi ∈ lw_all) (hroom : xRoom x (fr + 1) (8 + (maxL + 11) + lo)) (hy : yi.cls ≠ "java/lang/invoke/MethodHandle" ∧ yi.cls ≠ "java/lang/invoke/VarHandle") (hlen : ∀ sig, parseMethodDescriptor yi.desc = some sig → As.length = sig.parameters.length) (hst : st0 = As.reverse ++ st) (hcat : (st.map fun v => v.category).sum ≤ 8)
    (K : ∀ r, xI x emb (pc + 3) lv ((embb r).toList ++ st) (kk r)) : xI x emb pc lv st0 (xbind cmc kk) := by
  refine xI.callL 3 (by obtain ⟨p, l, e, R, s, m, args, below, meth, c, D, s0, Γ, nL, b0⟩ := x; exact F.2.2.2.1) hno ?_ K
  obtain ⟨p, l, e, R, s, m, args, below, meth, c, D, s0, Γ, nL, b0⟩ := x
  intro H locs cells slots ls h n hR hlv ob hb dcb dsb he h1 h2 T hT X
  have hB : vx_Back l R p e below s args yi 3 8 (xPre D s0 R As h n dcb dsb) (xPost D s0 embb ob hb (n + dcb) dcb dsb) (xPostX D s0 ob hb (n + dcb) dcb dsb) := by
    refine xback hM he hroom.1 hroom.2 (fun a' U hW => word_at hW (good_of_word (List.mem_filter.mp w1).2) (xwdL F w1 (a := args))) (fun U a' mk h1 h2 => ?_)
    obtain ⟨methY, cY, g1, g2, -, g4, -⟩ := hcw.spec h1 h2
    exact ⟨methY, cY, g1, g2, g4⟩
  obtain ⟨mk, hnamed⟩ := hcw.named (xwdL F w1 (a := args))
  obtain ⟨methM, cM, hmethM, -, -, -, -, -, hsigM⟩ := hcw.spec (xwdL F w1 (a := args)) hnamed
  have hstatic : methM.isStatic = true := Cond.static_spec hnamed hmethM (xwdL F w4 (a := args))
  obtain ⟨kP, hkP, hkn⟩ := className_of_methodNamed hnamed
  have hinitP : kP.init = .initialized := Cond.initialized_spec (findClass_of_methodNamed hnamed) hkP (xwdL F w2 (a := args))
  have hmono : 2 * (F0 m pc ls st).monitorRoom + ((F0 m pc ls st).stack.map fun v => v.category).sum ≤ 8 := lv_room (m := m) (pc := pc) (ls := ls) (rest := st) hcat
  obtain ⟨hx, hbb, hml, hlk, hret, G, hW0⟩ := id F
  have hd' : decode c.code pc = .ok (.invokestatic M, 3) := by rw [hbb]; exact hd
  have hW := X.warmed
  have hnT : T.methodNamed? yi = some mk := X.named hnamed
  obtain ⟨kP', hkP', hke⟩ := hW.alike.2.2 _ _ hkP
  have hmT : T.vm.method? mk = some methM := by rw [hW.alike.method?]; exact hmethM
  obtain ⟨hready, hplain⟩ := hr.2 T hW mk hnT
  have hsp : signaturePolymorphic kP' methM = false := by
    have : kP'.name = yi.cls := by rw [hke]; exact hkn
    simp [signaturePolymorphic, this, hy.1, hy.2]
  have hstep : ∀ tg, (∀ acts, Steps p.tables e below (doInvoke e (T.setTop (F0 m pc ls st)) acts mk As.toArray).1 tg) → Steps p.tables e below (T.setTop (F0 m pc ls st0)) tg := by
    intro tg hh
    jvm_step X.here [hx, hbb, hd, invokestatic.wp_ready (e := e) (s := T) (m := mk) (k := kP') (meth := methM) (args := As) (rest := st) (f := F0 m pc ls st0) X.here.top hplain hready hkP' hmT hsp hstatic (by rw [hke]; exact hinitP) (hlen _ hsigM) hst]
    intro acts
    exact hh acts
  have hpr : xPre D s0 R As h n dcb dsb ⟨T, locs, cells, slots⟩ As.toArray := by
    refine ⟨h1, h2, rfl, State.WarmedH.trans hW0 hW, ?_⟩
    show xR D s0 h n T.heap
    rw [hT]
    exact hR
  have hTT : T.setVm T.vm = T := rfl
  rcases hB m meth c ⟨T, locs, cells, slots⟩ (F0 m pc ls st) (.invokestatic M) mk As.toArray X rfl (hlv.1.trans hml.symm) hd' hmono hnT hpr with ⟨v, B, X', hpost, hsteps⟩ | ⟨q, B, X', hpost, hsteps⟩
  · exact Or.inl ⟨v, T.vm, B, As.toArray, hW, X', hpost, fun target hh => hstep _ fun acts => by rw [doInvoke_state]; exact hsteps.trans hh⟩
  · exact Or.inr ⟨q, T.vm, B, As.toArray, hW, X', hpost, hstep _ fun acts => by rw [doInvoke_state]; exact hsteps⟩
end XL4
