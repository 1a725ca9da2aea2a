/-! part 19k: the row of a call of a lambda's object -/
section XL5
variable {α β : Type} {x : xC} {emb : α → Option Value} {embb : β → Option Value} {own : String} {cc : ByteArray} {ret : Option FieldType} {pc : Nat} {lv lv' : List (Nat × Value)} {st st0 : List Value} {kk : β → xM α}
theorem xsteps_weaken {tb : Tables} {e : Env} {mid below : List Frame} {a b : State} (h : Steps tb e (mid ++ below) a b) : Steps tb e below a b := by
  obtain ⟨n, hn, w⟩ := h
  exact ⟨n, hn, fun k hk => (w k hk).weaken⟩
theorem xmadeX {e : Setting} {vm : Vm} {d c : ClassId} {dk : Class} {σ : Lambda.Shape} {own : String} {cD : ClassFile} {fw methk : Method} {ck : Code} (hd : vm.classes[d]? = some dk) (hname : dk.name = own) (h : Lambda.isMade e vm d σ c = true)
    (h1 : σ.file own = some cD) (h2 : ∀ ms, layoutMethods cD = some ms → ms[1]? = some fw) (hm : vm.method? ⟨c, 1⟩ = some methk) (hc : methk.code = some ck) : ck.exceptionTable = #[] := by
  obtain ⟨dk', k, ok, tk, file, cf, object, iface, toy, lay', methods, target, found, hd', hk, hfile, hcf, hobj, -, hok, hlay, hms, ht, htk, hg, -, hrec, -, -, -, hitf, hpool, hmeth, hfields, hty, hres, -⟩ := Lambda.isMade_spec h
  cases hd.symm.trans hd'
  rw [hname, h1] at hcf
  cases hcf
  obtain ⟨b, hb, hsame⟩ := hmeth 1 fw (h2 methods hms)
  have hmb : methk = b := by
    simp [Vm.method?, hk, hb] at hm
    exact hm.symm
  subst hmb
  obtain ⟨-, -, -, -, x, y, -, hy, -, -, -, he⟩ := Lambda.sameMethod_spec hsame
  cases hc.symm.trans hy
  exact he
theorem xr_L {x0 yi ylam : MethodName} {k idx cnt M C nt CU maxL fr lo pcl idl : Nat} {σ : Lambda.Shape} {cD : ClassFile} {fw : Method} {lay : Array Field × Array FieldType × Array FieldType} {bytes : ByteArray} {sam : String} {rt : FieldType} {fs : List (Nat × Nat)} {As : List Value} {r : Option Nat} {f : Nat → xM β}
    (F : xF x own cc ret) (hno : xNo x pc) (hd : decode cc pc = .ok (.invokeinterface idx cnt, 5)) (hk : xlam[k]? = some (ylam, pcl, idl, σ)) (wO : Cond.instantiable "java/lang/Object" 0 ∈ lw_all)
    (h1 : σ.file ylam.cls = some cD) (h2 : ∀ ms, layoutMethods cD = some ms → ms[1]? = some fw) (h3 : layoutFields cD 0 = some lay)
    (h4 : (fw.code.map fun c => (c.code.data, c.maxLocals)) = some (bytes.data, maxL)) (h5 : (fw.accessFlags, fw.name, fw.sig.returnType) = (0x0001, sam, some rt))
    (h6 : cD.constantPool[M]? = some (.methodref C nt) ∧ cD.constantPool.className? C = some σ.implClass ∧ cD.constantPool.nameAndType? nt = some (σ.implName, σ.implDesc.toString))
    (h7 : cD.constantPool[C]? = some (.class_ CU) ∧ cD.constantPool.string? CU = some σ.implClass ∧ C ≠ cD.thisClass)
    (hfs : ∀ (fi i : Nat), (fi, i) ∈ fs → ∃ (ci nti : Nat) (nm ds : String), cD.constantPool[fi]? = some (.fieldref ci nti) ∧ cD.constantPool.nameAndType? nti = some (nm, ds) ∧ lay.1.findIdx? (·.name == nm) = some i ∧ (lay.1[i]?).map (fun f => (f.isStatic, f.slot)) = some (false, i))
    (hx0 : x0.cls = σ.iface ∧ x0.name = σ.name ∧ x0.desc = σ.sam.toString) (hyi : yi.cls = σ.implClass ∧ yi.name = σ.implName ∧ yi.desc = σ.implDesc.toString)
    (hpn : plainName (ylam.cls ++ "$$Lambda") = true)
    (w3 : Cond.methodLink own idx x0 ∈ lw_all) (w6 : Cond.declares x0 ∈ lw_tbl) (w7 : Cond.interfaceMethod x0.cls x0.cls x0.name x0.desc ∈ lw_tbl)
    (hy : x0.cls ≠ "java/lang/invoke/MethodHandle" ∧ x0.cls ≠ "java/lang/invoke/VarHandle") (hy2 : yi.cls ≠ "java/lang/invoke/MethodHandle" ∧ yi.cls ≠ "java/lang/invoke/VarHandle")
    (hlenA : ∀ a : Nat, (lg_sl (.ref a :: As)).length ≤ maxL)
    (hbody : ∀ (x' : xC) (a : Nat), xFL x' bytes (some rt) → xnL x' = maxL → (∃ dc ds, x'.2.2.2.1 = { frames := fr, cells := dc, slots := ds, locals := lo }) → (∀ pc, xNo x' pc) → xRdy x' fs M yi → x'.2.1 = x.2.1 → x'.2.2.2.2.2.2.2.2.2.2.1 = x.2.2.2.2.2.2.2.2.2.2.1 → x'.2.2.2.2.2.2.2.2.2.2.2.1 = x.2.2.2.2.2.2.2.2.2.2.2.1 → x'.2.2.2.2.2.2.2.2.2.2.2.2.1 = x.2.2.2.2.2.2.2.2.2.2.2.2.1 → xI x' embb 0 (lv_args 0 (.ref a :: As)) [] (f a))
    (hroom : xRoom x (fr + 1) (8 + (maxL + 11) + lo)) (hlen : ∀ sig, parseMethodDescriptor x0.desc = some sig → As.length = sig.parameters.length) (hst : st0 = As.reverse ++ va_rf r :: st) (hcat : (st.map fun v => v.category).sum ≤ 8)
    (K : ∀ r, xI x emb (pc + 5) lv ((embb r).toList ++ st) (kk r)) : xI x emb pc lv st0 (xbind (xsel r [(1000 + k, f)]) kk) := by
  refine xI.call 5 F hno ?_ K
  obtain ⟨p, l, e, R, s, m, args, below, meth, c, D, s0, Γ, nL, b0⟩ := x
  intro H locs cells slots ls h n hR hlv ob hb dcb dsb he hq1 hq2 Ts hT X
  obtain ⟨a, w, fs', rfl, ha, he⟩ := xsel_some he
  obtain ⟨cell, g1, g2, g3, g4, g5, g6⟩ := hR.2.2.2.1 _ _ ha
  obtain ⟨hx, hbb, hml, hown, hlk, hret, G, hW0, hsz, hpre⟩ := id F
  have hts := G.1
  have hlam := G.2.2.2.2.2.2.2.2.2.2.2.2 k ylam pcl idl σ hk
  obtain ⟨mD, kD, cfD, i0, p0, lk, hmD, hkD, -, -, -, -, hmade0, hcan0, -⟩ := State.lambdaAt?_spec hlam
  obtain ⟨kD2, hkD2, hnD⟩ := className_of_methodNamed hmD
  cases hkD.symm.trans hkD2
  have g4 : cell.cls = D.1 (1000 + k) := g4
  rw [← g4] at hmade0 hcan0
  have hk9 : ∀ U : State, s0.WarmedH U.vm → ∃ kD', U.vm.classes[mD.cls]? = some kD' ∧ kD'.name = ylam.cls := fun U hW => by
    obtain ⟨kD', hkD', heD⟩ := hW.alike.2.2 _ _ hkD
    exact ⟨kD', hkD', by rw [heD]; exact hnD⟩
  have hO9 : ∀ U : State, s0.WarmedH U.vm → ∀ o ok, U.vm.findClass "java/lang/Object" = some o → U.vm.classes[o]? = some ok → ok.instanceTypes.size = 0 := fun U hW o9 ok9 e1 e2 => by
    obtain ⟨cO, kO, o1, o2, -, -, -, o6⟩ := Cond.instantiable_spec (word_at hW (good_of_word (List.mem_filter.mp wO).2) (hts _ (lw_all_tbl wO)) (a' := args))
    cases o1.symm.trans e1
    cases o2.symm.trans e2
    exact o6
  have facts := fun (U : State) (hW : s0.WarmedH U.vm) => xmade (vm := U.vm) (hk9 U hW).choose_spec.1 (hk9 U hW).choose_spec.2 (Lambda.isMade_warmer hW hmade0) (hO9 U hW) h1 h2 h3 h4 h5 h6 h7
  have factX : ∀ (U : State), s0.WarmedH U.vm → ∀ methk ck, U.vm.method? ⟨cell.cls, 1⟩ = some methk → methk.code = some ck → ck.exceptionTable = #[] := fun U hW methk ck q1 q2 => by
    obtain ⟨kD', hkD', heD⟩ := hW.alike.2.2 _ _ hkD
    exact xmadeX hkD' (by rw [heD]; exact hnD) (Lambda.isMade_warmer hW hmade0) h1 h2 q1 q2
  obtain ⟨r0, rM, hn, hrm, hstR, hsigR⟩ := Cond.declares_spec (hts _ w6)
  obtain ⟨cL, kL, r1, hcL, hkL, hiL, hfoundL, hn1⟩ := Cond.interfaceMethod_spec (hts _ w7)
  cases hn.symm.trans hn1
  have hr0cls : r0.cls = cL := Option.some.inj ((findClass_of_methodNamed hn).symm.trans hcL)
  obtain ⟨hnameR, hdescR⟩ := name_of_methodNamed hn hrm
  have A := hW0.alike
  have hnS : s.methodNamed? x0 = some r0 := by
    have := State.methodNamed?_setVm (s := s0) A x0
    rw [hn] at this
    exact this
  have hrmS : s.vm.method? r0 = some rM := by rw [A.method?]; exact hrm
  obtain ⟨kL', hkL', heL⟩ := A.2.2 _ _ hkL
  have hiL' : kL'.isInterface = true := by
    have : kL'.isInterface = kL.isInterface := by rw [heL]; rfl
    rw [this]; exact hiL
  have hmadeS := Lambda.isMade_warmer hW0 hmade0
  obtain ⟨-, -, -, -, -, -, -, iface', -, -, -, -, found, -, -, -, -, -, hi', -, -, -, -, -, -, hfound', -, -, -, -, -, -, -, -, -, -, hsel⟩ := Lambda.isMade_spec hmadeS
  have hcLS : s.vm.findClass x0.cls = some cL := by rw [A.findClass]; exact hcL
  have hif : iface' = cL := by
    rw [← hx0.1] at hi'
    exact Option.some.inj (hi'.symm.trans hcLS)
  subst hif
  have hfr : found = r0 := by
    have e1 : s.methodFound? x0.cls x0.name x0.desc = some r0 := State.methodFound?_of_named hnS hy
    simp only [State.methodFound?, hcLS, hkL', hiL', Option.bind_eq_bind, Option.bind_some] at e1
    rw [hx0.2.1, hx0.2.2, hfound'] at e1
    exact Option.some.inj e1
  subst hfr
  have hcanS : s.lambdaCallable σ cell.cls = true := by
    simp only [State.lambdaCallable, A.findClass, A.assignable, A.superclasses, A.declaredIn] at hcan0 ⊢
    exact hcan0
  obtain ⟨i2, hi2, hasg, hway⟩ := State.lambdaCallable_spec hcanS
  have hi2' : i2 = iface' := by
    rw [← hx0.1] at hi2
    exact Option.some.inj (hi2.symm.trans hcLS)
  subst hi2'
  obtain ⟨k2, tk, ok, oo, file, methk, ck, toy, t2, m1, m2, m3, m4, m5, m6, m7, m8, m9, m10, m11, m12, m13, m14, m15, m16, m17, m18, m19, m20, m21⟩ := facts s hW0
  have hd' : decode c.code pc = .ok (.invokeinterface idx cnt, 5) := by rw [hbb]; exact hd
  obtain ⟨vm₁, X₁, hstep₁⟩ := X.invokeinterface hx hown (xwd F w3 (a := args)) hnS hrmS hstR (by rw [hr0cls]; exact hkL') hiL' hy (a := a) (cell := cell) (kcell := k2) (by rw [hT]; exact g1) (fun z hz => by rw [hz] at g3; cases g3) m1 (by rw [hr0cls]; exact hasg)
    (m' := ⟨cell.cls, 1⟩) (meth' := methk) (by rw [Launch.admits_selectMethod X.admits]; exact hsel) m6 (by rw [hnameR, hdescR, hx0.2.1, hx0.2.2]; exact hway) (by rw [m11]; decide) (by simp [Method.isAbstract, m11, hasFlag, Acc.abstract])
    (g := F0 m pc ls st0) rfl (argsL := As) (rest := st) (hlen _ hsigR) hst hd'
  have hW1 : s.WarmedH vm₁ := X₁.warmed
  have hW01 : s0.WarmedH vm₁ := State.WarmedH.trans hW0 hW1
  obtain ⟨k2', tk', ok', oo', file', methk', ck', toy', t2', n1, n2, n3, n4, n5, n6, n7, n8, n9, n10, n11, n12, n13, n14, n15, n16, n17, n18, n19, n20, n21⟩ := facts (Ts.setVm vm₁) hW01
  have hnoT := factX (Ts.setVm vm₁) hW01 methk' ck' n6 n7
  have hmono : 2 * (F0 m pc ls st).monitorRoom + ((F0 m pc ls st).stack.map fun v => v.category).sum ≤ 8 := lv_room (m := m) (pc := pc) (ls := ls) (rest := st) hcat
  have hpk : (Ts.setVm vm₁).plainMethod ⟨cell.cls, 1⟩ := State.plainMethod.of_name (fun k' hk' => by
    cases n1.symm.trans hk'
    rw [n2]
    exact hpn)
  obtain ⟨Y₀, hin⟩ := X₁.into (g := F0 m pc ls st) rfl (hlv.1.trans hml.symm) hd' (Value.ref a :: As).toArray (R' := { frames := fr, cells := dcb, slots := dsb, locals := lo }) n6 n7 n10 hpk hroom.1 (by
    have h9 : 8 + (maxL + 11) + lo ≤ R.locals := hroom.2
    rw [n9]
    show _ + (maxL + 11) + lo ≤ R.locals
    omega) hq1 hq2
  have hrdy : xRdy (p, l, e, { frames := fr, cells := dcb, slots := dsb, locals := lo }, (Ts.setVm vm₁).calling (F0 m pc ls st) ⟨cell.cls, 1⟩ (Value.ref a :: As).toArray, ⟨cell.cls, 1⟩, (Value.ref a :: As).toArray, .java (F0 m pc ls st) :: below, methk', ck', D, s0, Γ, maxL, b0) fs M yi := by
    refine ⟨fun U hU fi i hmem => ?_, fun U hU t ht => ?_⟩
    · have hWU : s0.WarmedH U.vm := State.WarmedH.trans (t := Ts.setVm vm₁) hW01 hU
      obtain ⟨u1, u2, u3, u4, u5, u6, u7, u8, u9, v1, v2, v3, v4, v5, v6, v7, v8, v9, v10, v11, v12, v13, v14, v15, v16, v17, v18, v19, v20, v21⟩ := facts U hWU
      obtain ⟨ci, nti, nm, dss, hh⟩ := hfs fi i hmem
      exact v21 i fi ci nti nm dss hh
    · have hWU : s0.WarmedH U.vm := State.WarmedH.trans (t := Ts.setVm vm₁) hW01 hU
      obtain ⟨u1, u2, u3, u4, u5, u6, u7, u8, u9, v1, v2, v3, v4, v5, v6, v7, v8, v9, v10, v11, v12, v13, v14, v15, v16, v17, v18, v19, v20, v21⟩ := facts U hWU
      have e1 : U.methodFound? yi.cls yi.name yi.desc = some t := State.methodFound?_of_named ht hy2
      have e2 : u9 = t := by
        rw [hyi.1, hyi.2.1, hyi.2.2] at e1
        simp only [State.methodFound?, v13, v14, Option.bind_eq_bind, Option.bind_some] at e1
        rw [v15] at e1
        exact Option.some.inj e1
      subst e2
      obtain ⟨b, hmem⟩ := memberRef_ask' (e := e) (vm := U.vm) (d := cell.cls) (index := M) v1 v4 (Or.inl (by rw [v5]; exact h6.1)) (by rw [v5]; exact h6.2.2)
      obtain ⟨kn, hkn, hknn⟩ := Vm.findClass_spec v13
      cases v14.symm.trans hkn
      have hsp : ∀ y : Method, signaturePolymorphic u2 y = false := fun y => by
        simp [signaturePolymorphic, hknn, ← hyi.1, hy2.1, hy2.2]
      exact ⟨v16, C, _, _, b, u8, u2, hmem, v17, v14, by simp [hsp]⟩
  have B := hbody (p, l, e, { frames := fr, cells := dcb, slots := dsb, locals := lo }, (Ts.setVm vm₁).calling (F0 m pc ls st) ⟨cell.cls, 1⟩ (Value.ref a :: As).toArray, ⟨cell.cls, 1⟩, (Value.ref a :: As).toArray, .java (F0 m pc ls st) :: below, methk', ck', D, s0, Γ, maxL, b0) a ⟨hx, n8, n9, n10, n12, G, hW01⟩ rfl ⟨_, _, rfl⟩ (fun pc z hz => by
    have hz' : z ∈ ck'.exceptionTable.toList := hz
    rw [hnoT] at hz'
    cases hz') hrdy rfl rfl rfl rfl h n ob hb dcb dsb he H [] 0 0 (((lg_sl (.ref a :: As) ++ List.replicate (maxL - (lg_sl (.ref a :: As)).length) Slot.unset).toArray)) hR (lv_entry (.ref a :: As) (hlenA a)) (fun q hq => by cases hq) (by show 0 + dcb ≤ dcb; omega) (by show 0 + dsb ≤ dsb; omega)
  rw [← lg_entry_eq] at B
  rw [n9] at Y₀ hin
  obtain ⟨t, a1, oc, b1, b2, b3⟩ := B _ (by rw [← hT]; rfl) Y₀
  rw [Nat.zero_add, Nat.zero_add] at b3
  obtain ⟨hoc, hR2, L, hWt, hsm, hL⟩ := b3
  cases ob with
  | inl rr =>
    subst hoc
    obtain ⟨T', X', hW', -, ht⟩ := X₁.outOf (g := F0 m pc ls st) rfl hd' (v := embb rr) b2 hWt hsm
    refine Or.inl ⟨embb rr, vm₁, ⟨T', locs ++ L, cells + dcb, slots + dsb⟩, (Value.ref a :: As).toArray, hW1, X', ⟨⟨rr, rfl, rfl⟩, ?_, ⟨L, rfl, hL⟩, rfl, rfl⟩, fun target hh => hstep₁ _ fun acts => ?_⟩
    · rw [ht] at hR2
      exact hR2
    · rw [hin acts]
      refine (xsteps_weaken (mid := [.java (F0 m pc ls st)]) a1).trans ?_
      rw [ht]
      exact hh
  | inr q =>
    subst hoc
    obtain ⟨T', X', hW', -, ht⟩ := X₁.outOfThrown (g := F0 m pc ls st) rfl (x := q) b2 hWt hsm
    refine Or.inr ⟨q, vm₁, ⟨T', locs ++ L, cells + dcb, slots + dsb⟩, (Value.ref a :: As).toArray, hW1, X', ⟨rfl, ?_, ⟨L, rfl, hL⟩, rfl, rfl⟩, hstep₁ _ fun acts => ?_⟩
    · rw [ht] at hR2
      exact hR2
    · rw [hin acts]
      have := xsteps_weaken (mid := [.java (F0 m pc ls st)]) a1
      rw [ht] at this
      exact this
end XL5
