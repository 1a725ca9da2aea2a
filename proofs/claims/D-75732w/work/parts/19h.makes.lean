/-! part 19h: the row of a lambda that captures -/
section XL2
variable {α : Type} {x : xC} {emb : α → Option Value} {own : String} {cc : ByteArray} {ret : Option FieldType} {pc : Nat} {lv lv' : List (Nat × Value)} {st st0 : List Value}
theorem xr_lamM {k idx M C nt CU maxL : Nat} {y : MethodName} {σ : Lambda.Shape} {cD : ClassFile} {fw : Method} {lay : Array Field × Array FieldType × Array FieldType} {bytes : ByteArray} {sam : String} {rt : FieldType} {vals : List Value} {kk : Nat → xM α} (F : xF x own cc ret) (hmy : xmy x y) (hd : decode cc pc = .ok (.invokedynamic idx, 5)) (hk : xlam[k]? = some (y, pc, idx, σ)) (hcap : σ.captured ≠ []) (wO : Cond.instantiable "java/lang/Object" 0 ∈ lw_all)
    (h1 : σ.file own = some cD) (h2 : ∀ ms, layoutMethods cD = some ms → ms[1]? = some fw) (h3 : layoutFields cD 0 = some lay)
    (h4 : (fw.code.map fun c => (c.code.data, c.maxLocals)) = some (bytes.data, maxL)) (h5 : (fw.accessFlags, fw.name, fw.sig.returnType) = (0x0001, sam, some rt))
    (h6 : cD.constantPool[M]? = some (.methodref C nt) ∧ cD.constantPool.className? C = some σ.implClass ∧ cD.constantPool.nameAndType? nt = some (σ.implName, σ.implDesc.toString))
    (h7 : cD.constantPool[C]? = some (.class_ CU) ∧ cD.constantPool.string? CU = some σ.implClass ∧ C ≠ cD.thisClass)
    (hlen : vals.length = σ.captured.length) (hnf : (lay.2.1.toList.zip vals).map (fun q => narrow q.1 q.2) = vals) (hfit : ∀ (i : Nat) (v : Value), vals[i]? = some v → ∃ t, lay.2.1[i]? = some t ∧ fits t v = true)
    (hroom : xRoom x 1 3100) (hst : st0 = vals.reverse ++ st) (hcat : (st0.map fun v => v.category).sum ≤ 20) (K : ∀ a, xI x emb (pc + 5) lv (va_rf (some a) :: st) (kk a)) : xI x emb pc lv st0 (xbind (xnew (1000 + k) vals vals.length) kk) := by
  obtain ⟨p, l, e, R, s, m, args, below, meth, c, D, s0, Γ, nL, b0⟩ := x
  intro h nx o h' dc ds he H locs cells slots ls hR hlv hL hc1 hc2
  obtain ⟨kc, cf, i0, p0, lk, q1, q2, q3, q4, q5, q6, q7⟩ := xsite F hmy hk
  have WO := xwd F wO (a := args)
  obtain ⟨hx, hb, hml, hown, hlk, hret, G, hW, -⟩ := F
  rcases q7 with ⟨a, -, -, hne⟩ | ⟨rfl, -⟩
  · exact absurd hne hcap
  obtain ⟨kn, hkn, hknn⟩ := Vm.findClass_spec hown
  have hname : kc.name = own := by
    cases q1.symm.trans hkn
    exact hknn
  obtain ⟨cO, kO, o1, o2, -, -, -, o6⟩ := Cond.instantiable_spec WO
  obtain ⟨k2, tk, ok, oo, file, methk, ck, toy, t2, m1, m2, m3, m4, m5, m6, m7, m8, m9, m10, m11, m12, m13, m14, m15, m16, m17, m18, m19, m20, m21⟩ := xmade q1 hname q5 (fun o9 ok9 e1 e2 => by
    cases o1.symm.trans e1
    cases o2.symm.trans e2
    exact o6) h1 h2 h3 h4 h5 h6 h7
  cases o1.symm.trans m18
  cases o2.symm.trans m19
  have hit : k2.instanceTypes = lay.2.1 := by
    rw [m20, Array.eq_empty_of_size_eq_zero o6]
    simp
  obtain ⟨bsm, ntt, nmm, dsc, sig, s1, s2, s3, s4⟩ := xshape q3
  have hmap : ((k2.instanceTypes.toList.zip vals).map fun (t, v) => narrow t v) = vals := by
    rw [hit]
    exact hnf
  rcases xbind_some he with ⟨u, h1', c1, s1', r', h2', c2, s2', hf, hkk, hz⟩ | ⟨q, h1', c1, s1', hf, hz⟩
  · cases hf
    cases hz
    intro T hT X
    obtain ⟨X', step⟩ := X.lambdaMakes hx (g := F0 m pc ls st0) rfl (by rw [hml]; exact hlv.1) (index := idx) (by rw [hb]; exact hd) q1 q4 q2 s1 s2 (parseLong_of_parse s3) (vals := vals) (rest := st) (by rw [hlen, s4]) hst m1
      (by
        have hr2 : 3100 ≤ R.locals := hroom.2
        rw [xadm_words X.admits]
        show 2 * 0 + _ + 3072 ≤ R.locals
        have : ((F0 m pc ls st0).stack.map fun v => v.category).sum ≤ 20 := hcat
        omega) (by omega) (by rw [hmap]; omega) (fun i v hv => by
        rw [hmap] at hv
        have hv' : vals[i]? = some v := by simpa using hv
        obtain ⟨t, ht, hf⟩ := hfit i v hv'
        simp [State.fitsSlot, State.slotType?, m1, m3, hit, ht, hf])
    rw [hmap] at X' step
    rw [List.size_toArray] at X'
    have hR' := hR.push (H' := H.push ({ cls := D.1 (1000 + k), slots := vals.toArray, vm := .none } : Cell)) (c := (true, .inr (1000 + k, vals))) (by rw [Array.size_push, hR.1]) (fun q hq => by rw [Array.getElem?_push, if_neg (by rw [hR.1]; exact Nat.ne_of_lt hq)]) ⟨_, by rw [← hR.1, Array.getElem?_push_size], (fun h => by cases h), rfl, rfl, fun _ => ⟨rfl, fun h30 => absurd h30 (by omega)⟩, Or.inr ⟨by omega, rfl⟩⟩
    obtain ⟨t, a1, b1⟩ := K nx _ (nx + 1) o h' c2 s2' hkk (H.push ({ cls := D.1 (1000 + k), slots := vals.toArray, vm := .none } : Cell)) locs (cells + 1) (slots + vals.length) ls hR' hlv hL (by omega) (by omega) (T.pushCell ({ cls := D.1 (1000 + k), slots := vals.toArray, vm := .none } : Cell)) (by rw [← hT]; rfl) X'
    have e1 : nx + (1 + c2) = nx + 1 + c2 := by omega
    have e2 : cells + (1 + c2) = cells + 1 + c2 := by omega
    have e3 : slots + (vals.length + s2') = slots + vals.length + s2' := by omega
    rw [e1, e2, e3]
    refine ⟨t, step t ?_, b1⟩
    rw [hT, hR.1]
    exact a1
  · cases hf
end XL2
