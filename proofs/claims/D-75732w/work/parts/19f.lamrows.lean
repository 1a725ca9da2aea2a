/-! part 19f: a lambda's call site -/
theorem xadm_words {l : Launch} {e : Env} (h : l.admits e) : e.platform.lambdaLinkWords = 3072 := by
  have := h.2.2.2.2.1
  rw [this]
section XL1
variable {α : Type} {x : xC} {emb : α → Option Value} {own : String} {cc : ByteArray} {ret : Option FieldType} {pc : Nat} {lv lv' : List (Nat × Value)} {st : List Value}
/-- the call site of a lambda in the method that is run -/
theorem xsite {p : Program} {l : Launch} {e : Env} {R : Room} {s : State} {m : MethodId} {args : Array Value} {below : List Frame} {meth : Method} {c : Code} {D : xD} {s0 : State} {Γ : Nat → Option Nat} {nL b0 : Nat} (F : xF (p, l, e, R, s, m, args, below, meth, c, D, s0, Γ, nL, b0) own cc ret) {y : MethodName} (hmy : s.methodNamed? y = some m) {k idx : Nat} {σ : Lambda.Shape} (hk : xlam[k]? = some (y, pc, idx, σ)) :
    ∃ (kc : Class) (cf : ClassFile) (i0 p0 : Nat) (lk : Linked), s.vm.classes[m.cls]? = some kc ∧ kc.cf = some cf ∧ Lambda.shapeOf? cf idx = some σ ∧ (kc.callSites.find? fun y => y.1 == m.idx && y.2.1 == pc) = some (i0, p0, lk) ∧ Lambda.isMade { classPath := fun _ => none } s.vm m.cls σ (D.1 (1000 + k)) = true ∧ s.lambdaCallable σ (D.1 (1000 + k)) = true ∧
      ((∃ a, lk = .constant a ∧ Γ (200 + k) = some a ∧ σ.captured = []) ∨ (lk = .makes (D.1 (1000 + k)) ∧ σ.captured ≠ [])) := by
  obtain ⟨hx, hb, hml, hown, hlk, hret, G, hW, -⟩ := F
  have h0 := G.2.2.2.2.2.2.2.2.2.2.2.2 k y pc idx σ hk
  obtain ⟨m0, k0, cf, i0, p0, lk, hm, hk0, hcf, hsh, hin, hfind, hmade, hcall, hl⟩ := State.lambdaAt?_spec h0
  obtain ⟨kc', hk', he⟩ := hW.alike.2.2 _ _ hk0
  have hm' : s.methodNamed? y = some m0 := by
    have := State.methodNamed?_setVm (s := s0) hW.alike y
    rw [hm] at this
    exact this
  cases hmy.symm.trans hm'
  refine ⟨kc', cf, i0, p0, lk, hk', by rw [he]; exact hcf, hsh, by rw [he]; exact hfind, Lambda.isMade_warmer hW hmade, ?_, ?_⟩
  · have hA := hW.alike
    simp only [State.lambdaCallable, hA.findClass, hA.assignable, hA.superclasses, hA.declaredIn] at hcall ⊢
    exact hcall
  · rcases hl with ⟨a, cell, h1, h2, h3, -⟩ | ⟨h1, h2, h3⟩
    · exact Or.inl ⟨a, h1, h2, h3⟩
    · exact Or.inr ⟨h1, h3⟩
/-- a lambda that captures nothing -/
theorem xr_lamC {k idx : Nat} {y : MethodName} {σ : Lambda.Shape} {kk : Option Nat → xM α} (F : xF x own cc ret) (hmy : xmy x y) (hd : decode cc pc = .ok (.invokedynamic idx, 5)) (hk : xlam[k]? = some (y, pc, idx, σ)) (hcap : σ.captured = []) (hroom : xRoom x 1 3100) (hcat : (st.map fun v => v.category).sum ≤ 8) (K : ∀ r, xI x emb (pc + 5) lv (va_rf r :: st) (kk r)) : xI x emb pc lv st (xbind (xcon (200 + k)) kk) := by
  obtain ⟨p, l, e, R, s, m, args, below, meth, c, D, s0, Γ, nL, b0⟩ := x
  intro h nx o h' dc ds he H locs cells slots ls hR hlv hL h1 h2
  obtain ⟨kc, cf, i0, p0, lk, q1, q2, q3, q4, q5, q6, q7⟩ := xsite F hmy hk
  obtain ⟨hx, hb, hml, hown, hlk, hret, G, hW, -⟩ := F
  rcases q7 with ⟨a, rfl, hΓ, -⟩ | ⟨-, hne⟩
  · rcases xbind_some he with ⟨u, h1', c1, s1, r', h2', c2, s2, hf, hkk, hz⟩ | ⟨q, h1', c1, s1, hf, hz⟩
    · cases hf
      cases hz
      have K2 := K (Γ (200 + k)) h nx o h' (0 + c2) (0 + s2) (by rw [Nat.zero_add, Nat.zero_add]; exact hkk) H locs cells slots ls hR hlv hL h1 h2
      rw [hΓ] at K2
      intro T hT X
      obtain ⟨t, a1, b1⟩ := K2 T hT X
      refine ⟨t, ?_, b1⟩
      refine X.lambdaConstant hx (g := F0 m pc ls st) rfl (by rw [hml]; exact hlv.1) (index := idx) (by rw [hb]; exact hd) q1 q4 ?_ a1
      have hr2 : 3100 ≤ R.locals := hroom.2
      rw [xadm_words X.admits]
      show 2 * 0 + _ + 3072 ≤ R.locals
      have : ((F0 m pc ls st).stack.map fun v => v.category).sum ≤ 8 := hcat
      omega
    · cases hf
  · exact absurd hcap hne
end XL1
