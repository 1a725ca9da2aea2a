/-! part 19e: what is known of a lambda's made class (one theorem for all shapes) -/
theorem xmade {e : Setting} {vm : Vm} {d c : ClassId} {dk : Class} {σ : Lambda.Shape} {own : String} {cD : ClassFile} {fw : Method} {lay : Array Field × Array FieldType × Array FieldType} {bytes : ByteArray} {maxL M C nt CU : Nat} {sam : String} {rt : FieldType}
    (hd : vm.classes[d]? = some dk) (hname : dk.name = own) (h : Lambda.isMade e vm d σ c = true)
    (hO : ∀ o ok, vm.findClass "java/lang/Object" = some o → vm.classes[o]? = some ok → ok.instanceTypes.size = 0)
    (h1 : σ.file own = some cD) (h2 : ∀ ms, layoutMethods cD = some ms → ms[1]? = some fw) (h3 : layoutFields cD 0 = some lay)
    (h4 : (fw.code.map fun c => (c.code.data, c.maxLocals)) = some (bytes.data, maxL)) (h5 : (fw.accessFlags, fw.name, fw.sig.returnType) = (0x0001, sam, some rt))
    (h6 : cD.constantPool[M]? = some (.methodref C nt) ∧ cD.constantPool.className? C = some σ.implClass ∧ cD.constantPool.nameAndType? nt = some (σ.implName, σ.implDesc.toString))
    (h7 : cD.constantPool[C]? = some (.class_ CU) ∧ cD.constantPool.string? CU = some σ.implClass ∧ C ≠ cD.thisClass) :
    ∃ (k tk ok : Class) (o : ClassId) (file : ClassFile) (methk : Method) (ck : Code) (toy : ClassId) (t : MethodId),
      vm.classes[c]? = some k ∧ k.name = own ++ "$$Lambda" ∧ k.kind = .ordinary ∧ k.cf = some file ∧ file.constantPool = cD.constantPool ∧
      vm.method? ⟨c, 1⟩ = some methk ∧ methk.code = some ck ∧ ck.code = bytes ∧ ck.maxLocals = maxL ∧ methk.locks = false ∧ methk.accessFlags = 0x0001 ∧ methk.sig.returnType = some rt ∧
      vm.findClass σ.implClass = some toy ∧ vm.classes[toy]? = some tk ∧ ((methodIn toy σ.implName σ.implDesc.toString tk.isInterface none).ask e vm).1 = .ok t ∧
      vm.methodReady c M t ∧ vm.classReady c C toy ∧ vm.findClass "java/lang/Object" = some o ∧ vm.classes[o]? = some ok ∧ k.instanceTypes = ok.instanceTypes ++ lay.2.1 ∧
      ∀ (i fi ci nti : Nat) (nm ds : String), cD.constantPool[fi]? = some (.fieldref ci nti) ∧ cD.constantPool.nameAndType? nti = some (nm, ds) ∧ lay.1.findIdx? (·.name == nm) = some i ∧ (lay.1[i]?).map (fun f => (f.isStatic, f.slot)) = some (false, i) → ∃ f0 : Field, vm.fieldReady c fi c f0 ∧ f0.isStatic = false ∧ f0.slot = i := by
  obtain ⟨dk', k, ok, tk, file, cf, object, iface, toy, lay', methods, target, found, hd', hk, hfile, hcf, hobj, -, hok, hlay, hms, ht, htk, hg, -, hrec, -, -, -, hitf, hpool, hmeth, hfields, hty, hres, -⟩ := Lambda.isMade_spec h
  cases hd.symm.trans hd'
  rw [hname, h1] at hcf
  cases hcf
  rw [hO object ok hobj hok, h3] at hlay
  cases hlay
  obtain ⟨b, hb, hsame⟩ := hmeth 1 fw (h2 methods hms)
  simp only [Lambda.sameMethod, Bool.and_eq_true, decide_eq_true_eq] at hsame
  obtain ⟨⟨hn, -, hsig, hfl⟩, hcode⟩ := hsame
  simp only [Prod.mk.injEq] at h5
  cases hfc : fw.code with
  | none => rw [hfc] at h4; cases h4
  | some x =>
    cases hbc : b.code with
    | none => simp [hfc, hbc] at hcode
    | some y =>
      simp only [hfc, hbc, Bool.and_eq_true, decide_eq_true_eq] at hcode
      simp only [hfc, Option.map_some, Option.some.injEq, Prod.mk.injEq] at h4
      refine ⟨k, tk, ok, object, file, b, y, toy, target, hk, by rw [hrec.1, hname], hrec.2.1, hfile, hpool.2.1, by simp [Vm.method?, hk, hb], hbc, ?_, by rw [← hcode.1.1.1.1.2.1]; exact h4.2, ?_, by rw [← hfl]; exact h5.1, by rw [← hsig]; exact h5.2.2, ht, htk, hg,
        ⟨k, hk, hres M _ (Lambda.resolvedOf_method h6.1 h6.2.1 ht htk h6.2.2 hg)⟩, ⟨k, hk, hres C _ (Lambda.resolvedOf_class h7.1 h7.2.2 h7.2.1 ht)⟩, hobj, hok, hty.1, ?_⟩
      · rw [← hcode.1.1.1.1.2.2]
        exact ByteArray.ext h4.1
      · simp [Method.locks, Method.isSynchronized, ← hfl, h5.1, hasFlag, Acc.synchronized]
      · intro i fi ci nti nm ds hF
        obtain ⟨g0, hg0, hp0⟩ := Option.map_eq_some_iff.mp hF.2.2.2
        simp only [Prod.mk.injEq] at hp0
        exact ⟨g0, ⟨k, i, k, hk, hres fi _ (Lambda.resolvedOf_field hF.1 hF.2.1 hF.2.2.1), hk, hfields i _ hg0⟩, hp0.1, hp0.2⟩
