/-! part 15: more rows: exact casts, private methods of a superclass, several receivers, arraycopy, exceptions, handlers -/
section XN1
variable {α β : Type} {x : xC} {emb : α → Option Value} {embb : β → Option Value} {own : String} {cc : ByteArray} {ret : Option FieldType} {pc : Nat} {lv lv' : List (Nat × Value)} {st st0 : List Value} {kk : β → xM α}
theorem xI.alt2 {r : Option Nat} {ci : Nat} {f : Nat → xM β} {L : List (Nat × (Nat → xM β))} {Kp : Prop} (hK : Kp) (K1 : Kp → xI x emb pc lv st0 (xbind (xsel r [(ci, f)]) kk)) (K2 : Kp → xI x emb pc lv st0 (xbind (xsel r L) kk)) : xI x emb pc lv st0 (xbind (xsel r ((ci, f) :: L)) kk) := xI.sel2 (K1 hK) (K2 hK)
theorem xr_castE {idx ci : Nat} {nm : String} {T : u_T} {N : Nat} {r : Option Nat} {kk : Unit → xM α} (F : xF x own cc ret) (hd : decode cc pc = .ok (.checkcast idx, 3)) (w1 : Cond.classLink own idx nm ∈ lw_all) (hc : xcl[ci]? = some (nm, T, N)) (K : xI x emb (pc + 3) lv (va_rf r :: st) (kk ())) : xI x emb pc lv (va_rf r :: st) (xbind (xcst (fun c => c == ci) r) kk) := by
  obtain ⟨p, l, e, R, s, m, args, below, meth, c, D, s0, Γ, nL, b0⟩ := x
  intro h n o h' dc ds he H locs cells slots ls hR hlv hL h1 h2
  have W1 := xwd F w1 (a := args)
  rcases xbind_some he with ⟨u, h1', c1, s1, r', h2', c2, s2, hf, hkk, hz⟩ | ⟨q, h1', c1, s1, hf, hz⟩
  · unfold xcst at hf
    split at hf
    · rename_i hv
      cases hf
      cases hz
      have K2 := K h n o h' (0 + c2) (0 + s2) (by rw [Nat.zero_add, Nat.zero_add]; exact hkk) H locs cells slots ls hR hlv hL h1 h2
      cases r with
      | none => exact lv_castN F.1 F.2.1 hd K2
      | some v =>
        have hv : (match xobj h (some v) with | some (_, c, _) => c == ci | none => false) = true := hv
        split at hv
        · rename_i av cv fv hov
          obtain ⟨hq1, wv, hav⟩ := xobj_some hov
          cases hq1
          have hce : cv = ci := by simpa using hv
          subst hce
          obtain ⟨cellV, v1, v2, v3, -⟩ := xcls F hR hav hc
          exact va_castE F.1 F.2.1 F.2.2.2.1 W1 ⟨cellV, v1, v2, v3⟩ hd K2
        · cases hv
    · cases hf
  · unfold xcst at hf
    split at hf <;> cases hf
theorem xr_insE {idx ci : Nat} {nm : String} {T : u_T} {N : Nat} {r : Option Nat} {kk : Int32 → xM α} (F : xF x own cc ret) (hd : decode cc pc = .ok (.instanceof idx, 3)) (w1 : Cond.classLink own idx nm ∈ lw_all) (hc : xcl[ci]? = some (nm, T, N)) (K : ∀ v, xI x emb (pc + 3) lv (.int v :: st) (kk v)) : xI x emb pc lv (va_rf r :: st) (xbind (xins (fun c => if c = ci then some true else none) r) kk) := by
  obtain ⟨p, l, e, R, s, m, args, below, meth, c, D, s0, Γ, nL, b0⟩ := x
  intro h n o h' dc ds he H locs cells slots ls hR hlv hL h1 h2
  have W1 := xwd F w1 (a := args)
  rcases xbind_some he with ⟨u, h1', c1, s1, r', h2', c2, s2, hf, hkk, hz⟩ | ⟨q, h1', c1, s1, hf, hz⟩
  · unfold xins at hf
    split at hf
    · cases hf
      cases hz
      exact lv_instN F.1 F.2.1 hd (K 0 h n o h' (0 + c2) (0 + s2) (by rw [Nat.zero_add, Nat.zero_add]; exact hkk) H locs cells slots ls hR hlv hL h1 h2)
    · split at hf
      · rename_i av cv fv hov
        by_cases hce : cv = ci
        · subst hce
          dsimp only at hf
          rw [if_pos rfl] at hf
          cases hf
          cases hz
          obtain ⟨hq1, wv, hav⟩ := xobj_some hov
          cases hq1
          obtain ⟨cellV, v1, v2, v3, -⟩ := xcls F hR hav hc
          exact va_instE F.1 F.2.1 F.2.2.2.1 W1 ⟨cellV, v1, v2, v3⟩ hd (K 1 h n o h' (0 + c2) (0 + s2) (by rw [Nat.zero_add, Nat.zero_add]; exact hkk) H locs cells slots ls hR hlv hL h1 h2)
        · dsimp only at hf
          rw [if_neg hce] at hf
          cases hf
      · cases hf
  · unfold xins at hf
    split at hf
    · cases hf
    · split at hf
      · split at hf <;> cases hf
      · cases hf
/-- a cast to the array's own class -/
def xcsA (t : Nat) (r : Option Nat) : xM Unit := fun _ h _ => match r with
  | none => some (.inl (), h, 0, 0)
  | some a => match h a with
    | some (true, .inl (u, _)) => if u = t then some (.inl (), h, 0, 0) else none
    | _ => none
theorem xr_castA {idx t : Nat} {nm : String} {r : Option Nat} {kk : Unit → xM α} (F : xF x own cc ret) (hd : decode cc pc = .ok (.checkcast idx, 3)) (w1 : Cond.classLink own idx nm ∈ lw_all) (hn : ∀ (s : State) (c : ClassId) (ty : FieldType), xty[t]? = some ty → va_RA s c ty → s.vm.findClass nm = some c) (K : xI x emb (pc + 3) lv (va_rf r :: st) (kk ())) : xI x emb pc lv (va_rf r :: st) (xbind (xcsA t r) kk) := by
  obtain ⟨p, l, e, R, s, m, args, below, meth, c, D, s0, Γ, nL, b0⟩ := x
  intro h n o h' dc ds he H locs cells slots ls hR hlv hL h1 h2
  have W1 := xwd F w1 (a := args)
  rcases xbind_some he with ⟨u, h1', c1, s1, r', h2', c2, s2, hf, hkk, hz⟩ | ⟨q, h1', c1, s1, hf, hz⟩
  · unfold xcsA at hf
    split at hf
    · cases hf
      cases hz
      exact lv_castN F.1 F.2.1 hd (K h n o h' (0 + c2) (0 + s2) (by rw [Nat.zero_add, Nat.zero_add]; exact hkk) H locs cells slots ls hR hlv hL h1 h2)
    · split at hf
      · rename_i u xx hav
        split at hf
        · rename_i hu
          cases hf
          cases hz
          subst hu
          obtain ⟨cell, g1, g2, g3, ⟨ty, g5, g6⟩, g7, g8⟩ := hR.2.2.2.1 _ _ hav
          have hW := F.2.2.2.2.2.2.2.1
          have hG := F.2.2.2.2.2.2.1
          have h9 : s.vm.findClass nm = some (D.2.2 u) := hn s _ ty g5 (va_RA.moved hW.alike (hG.2.2.2.1 u ty g5).2)
          exact va_castE F.1 F.2.1 F.2.2.2.1 W1 ⟨cell, g1, g3, by rw [h9, g8 rfl]; obtain ⟨nn, y⟩ := xx; rcases y with f | f | f | f | f <;> rfl⟩ hd (K h n o h' (0 + c2) (0 + s2) (by rw [Nat.zero_add, Nat.zero_add]; exact hkk) H locs cells slots ls hR hlv hL h1 h2)
        · cases hf
      · cases hf
  · unfold xcsA at hf
    split at hf
    · cases hf
    · split at hf
      · split at hf <;> cases hf
      · cases hf
/-- a private method that a superclass declares (y2: any method of that class that the receiver's class selects) -/
theorem xr_P {y y2 : MethodName} {bytes : ByteArray} {maxL fr lo idx ci : Nat} {rety : Option FieldType} {cw : Cond} {As : List Value} {C : String} {T : u_T} {N : Nat} {r : Option Nat} {f : Nat → xM β} (F : xF x own cc ret) (hno : xNo x pc) (hd : decode cc pc = .ok (.invokevirtual idx, 3)) (hM : ∀ a, xMx x y cw fr lo (.ref a :: As) embb (f a)) (hcw : xCode y bytes maxL rety cw) (hc : xcl[ci]? = some (C, T, N)) (w1 : cw ∈ lw_all) (w3 : Cond.methodLink own idx y ∈ lw_all) (w4 : Cond.instanceMethod y ∈ lw_all) (w5 : Cond.privateMethod y ∈ lw_tbl) (w6 : Cond.selects C y2 y2 ∈ lw_all) (hy2 : y2.cls = y.cls) (hroom : xRoom x (fr + 1) (8 + (maxL + 11) + lo)) (hy : y.cls ≠ "java/lang/invoke/MethodHandle" ∧ y.cls ≠ "java/lang/invoke/VarHandle") (hlen : ∀ sig, parseMethodDescriptor y.desc = some sig → As.length = sig.parameters.length) (hst : st0 = As.reverse ++ va_rf r :: st) (hcat : (st.map fun v => v.category).sum ≤ 8)
    (K : ∀ r, xI x emb (pc + 3) lv ((embb r).toList ++ st) (kk r)) : xI x emb pc lv st0 (xbind (xsel r [(ci, f)]) kk) := by
  refine xI.call 3 F hno ?_ K
  obtain ⟨p, l, e, R, s, m, args, below, meth, c, D, s0, Γ, nL, b0⟩ := x
  intro H locs cells slots ls h n hR hlv ob hb dcb dsb he h1 h2 Ts hT X
  obtain ⟨a, w, fs, rfl, ha, he⟩ := xsel_some he
  have hB := xbk F (hM a) hcw w1 hroom he (len := 3)
  obtain ⟨hx, hbb, hml, hown, -⟩ := id F
  obtain ⟨cellB, hcell, hobj, hcls, -⟩ := xcls F hR ha hc
  have hmono : 2 * (F0 m pc ls st).monitorRoom + ((F0 m pc ls st).stack.map fun v => v.category).sum ≤ 8 := lv_room (m := m) (pc := pc) (ls := ls) (rest := st) hcat
  have hd' : decode c.code pc = .ok (.invokevirtual idx, 3) := by rw [hbb]; exact hd
  obtain ⟨mk, methM, hnamed, hmethM, hstM, habM⟩ := Cond.instanceMethod_spec (xwd F w4 (a := args))
  obtain ⟨methM', cM, hmethM', -, -, -, -, -, hsigM⟩ := hcw.spec (xwd F w1 (a := args)) hnamed
  cases hmethM.symm.trans hmethM'
  obtain ⟨c2, r2, m2, q1, q2, q3, q4, kP, hkP, hkPi⟩ := Cond.selects_spec (xwd F w6 (a := args))
  have hm2 : m2.cls = mk.cls := by
    have e1 := findClass_of_methodNamed q3
    have e2 := findClass_of_methodNamed hnamed
    rw [hy2] at e1
    exact Option.some.inj (e1.symm.trans e2)
  rw [hm2] at hkP
  have hpriv : methM.isPrivate = true := by
    obtain ⟨-, -, -, -, -, -, ⟨hts, -⟩, hW, -⟩ := F
    have h9 : (Cond.privateMethod y).before #[Value.ref b0] (s0.setVm s.vm) = true := by rw [Cond.privateMethod_setVm hW.alike]; exact hts _ w5
    exact Cond.privateMethod_at h9 mk methM hnamed hmethM
  have hselP : selectMethod e.platform s.vm cellB.cls mk = .method mk := selectMethod_private hmethM hpriv
  obtain ⟨vm₁, X₁, hstep₁⟩ := X.invokevirtual hx hown (xwd F w3 (a := args)) hnamed hmethM hstM hkP hkPi hy (a := a) (cell := cellB) (by rw [hT]; exact hcell)
    (fun z h => by rw [h] at hobj; cases hobj) hselP hmethM habM hkP hkPi (g := F0 m pc ls st0) rfl (argsL := As) (rest := st) (hlen _ hsigM) hst hd'
  rcases hB m meth c ⟨Ts.setVm vm₁, locs, cells, slots⟩ (F0 m pc ls st) (.invokevirtual idx) mk (Value.ref a :: As).toArray X₁ rfl (hlv.1.trans hml.symm) hd' hmono (X₁.named hnamed) (xpr F hT hR h1 h2 vm₁ X₁.warmed) with ⟨v, B, X', hpost, hsteps⟩ | ⟨q, B, X', hpost, hsteps⟩
  · exact Or.inl ⟨v, vm₁, B, _, X₁.warmed, X', hpost, fun target hh => hstep₁ _ fun acts => by rw [doInvoke_state]; exact hsteps.trans hh⟩
  · exact Or.inr ⟨q, vm₁, B, _, X₁.warmed, X', hpost, hstep₁ _ fun acts => by rw [doInvoke_state]; exact hsteps⟩
end XN1
section XN2
variable {α : Type} {x : xC} {emb : α → Option Value} {own : String} {cc : ByteArray} {ret : Option FieldType} {pc : Nat} {lv lv' : List (Nat × Value)} {st : List Value}
theorem xr_strw {k idx : Nat} {tx : String} {kk : Option Nat → xM α} (F : xF x own cc ret) (hd : decode cc pc = .ok (.ldc_w idx, 3)) (hk : xstr[k]? = some (own, idx, tx)) (K : ∀ r, xI x emb (pc + 3) lv (va_rf r :: st) (kk r)) : xI x emb pc lv st (xbind (xcon (100 + k)) kk) := by
  obtain ⟨p, l, e, R, s, m, args, below, meth, c, D, s0, Γ, nL, b0⟩ := x
  intro h nn o h' dc ds he H locs cells slots ls hR hlv hL h1 h2
  obtain ⟨hx, hb, hml, hown, hlk, hret, G, hW, -⟩ := F
  obtain ⟨a, ha, hZ⟩ := G.2.2.2.2.2.2.2.1 k own idx tx hk
  rcases xbind_some he with ⟨u, h1', c1, s1, r', h2', c2, s2, hf, hkk, hz⟩ | ⟨q, h1', c1, s1, hf, hz⟩
  · cases hf
    cases hz
    have K2 := K (Γ (100 + k)) h nn o h' (0 + c2) (0 + s2) (by rw [Nat.zero_add, Nat.zero_add]; exact hkk) H locs cells slots ls hR hlv hL h1 h2
    rw [ha] at K2
    have hZ2 := vk_R.warm hW hZ
    intro T hT X
    obtain ⟨t, a1, b1⟩ := K2 T hT X
    refine ⟨t, ?_, b1⟩
    obtain ⟨k9, cf, i, a', hk9, hcf, hcp, -, hr, hev'⟩ := Cond.stringRef_spec hown hZ2.1
    cases hZ2.2.symm.trans hev'
    obtain ⟨k', hk', he9⟩ := X.warmed.alike.2.2 _ _ hk9
    have hr' : k'.resolved[idx]? = some (some (.string a)) := by
      rcases X.warmed.entry hk9 hk' idx with h | ⟨h, -⟩
      · rw [h]; exact hr
      · rw [hr] at h; cases h
    have hd' : decode c.code pc = .ok (.ldc_w idx, 3) := by rw [hb]; exact hd
    jvm_step X.here [hx, hd', ldc_w.wp_string (e := e) (s := T) (f := F0 m pc ls st) X.here.top hk' (by rw [he9]; exact hcf) hcp hr']
    exact a1
  · cases hf
/-- System.arraycopy of numbers -/
def xcpI (t : Nat) (ty : FieldType) (sr : Option Nat) (sp : Int32) (dr : Option Nat) (dp n : Int32) : xM Unit := fun _ h _ => match xarr h sr with
  | some (_, u, n0, .inl f) => (match dr with
    | none => none
    | some a => match h a with
      | some (true, .inl (u1, n1, .inl g)) => if u = t ∧ u1 = t ∧ ¬ sp < 0 ∧ ¬ dp < 0 ∧ ¬ n < 0 ∧ sp.toNatClampNeg + n.toNatClampNeg ≤ n0 ∧ dp.toNatClampNeg + n.toNatClampNeg ≤ n1 ∧ (List.range n.toNatClampNeg).all (fun i => fits ty (.int (f (sp.toNatClampNeg + i)))) = true then some (.inl (), xupd h a (true, .inl (t, n1, .inl (va_cpy f g sp.toNatClampNeg dp.toNatClampNeg n.toNatClampNeg))), 0, 0) else none
      | _ => none)
  | _ => none
theorem xcopied {cs : Cell} {n0 : Nat} {f g : Nat → Int32} {c1 : ClassId} {n1 sp dp n : Nat} (hcs : cs.slots = (vp_cell 0 (n0, .inl f)).slots) (hs : sp + n ≤ n0) : (vp_cell c1 (n1, .inl g)).storeRun dp (cs.stretch sp n) = vp_cell c1 (n1, .inl (va_cpy f g sp dp n)) := by
  exact va_copiedX (fun z => .int z) cs c1 f g (fun j hj => by rw [hcs]; exact arrV_read _ _ hj) hs
theorem xr_cpI {t idx : Nat} {ty : FieldType} {sr dr : Option Nat} {sp dp n : Int32} {kk : Unit → xM α} (F : xF x own cc ret) (hd : decode cc pc = .ok (.invokestatic idx, 3)) (ht : xty[t]? = some ty) (hprim : refKind ty = false) (w1 : Cond.methodLink own idx arraycopyName ∈ lw_all) (w2 : Cond.native arraycopyName ∈ lw_all) (w3 : Cond.static arraycopyName ∈ lw_all) (w4 : Cond.initialized "java/lang/System" ∈ lw_all) (hroom : xRoom x 1 60) (hcat : (st.map fun v => v.category).sum ≤ 8) (K : xI x emb (pc + 3) lv st (kk ())) : xI x emb pc lv (.int n :: .int dp :: va_rf dr :: .int sp :: va_rf sr :: st) (xbind (xcpI t ty sr sp dr dp n) kk) := by
  have nn : ∀ z : Int32, ¬ z < 0 → z.toInt = (z.toNatClampNeg : Int) := by
    intro z hz
    have hz0 : (0 : Int) ≤ z.toInt := by
      have := Int32.not_lt.mp hz
      simpa using Int32.le_iff_toInt_le.mp this
    show z.toInt = ((z.toInt.toNat : Nat) : Int)
    omega
  obtain ⟨p, l, e, R, s, m, args, below, meth, c, D, s0, Γ, nL, b0⟩ := x
  intro h nx o h' dc ds he H locs cells slots ls hR hlv hL h1 h2
  have W1 := xwd F w1 (a := args)
  have W2 := xwd F w2 (a := args)
  have W3 := xwd F w3 (a := args)
  have W4 := xwd F w4 (a := args)
  obtain ⟨hx, hb, hml, hown, hlk, hret, G, hW, -⟩ := F
  rcases xbind_some he with ⟨u, h1', c1, s1, r', h2', c2, s2, hf, hkk, hz⟩ | ⟨q, h1', c1, s1, hf, hz⟩
  · unfold xcpI at hf
    split at hf
    · rename_i a0 u0 n0 f hos
      split at hf
      · cases hf
      · rename_i a
        split at hf
        · rename_i u1 n1 g ha1
          split at hf
          · rename_i hcc
            cases hf
            cases hz
            obtain ⟨rfl, rfl, i1, i2, i3, i4, i5, i6⟩ := hcc
            obtain ⟨rfl, w0, ha0⟩ := xarr_some hos
            obtain ⟨cs, g1, g2, g3, ⟨ty0, g5, g6⟩, g7, -⟩ := hR.2.2.2.1 _ _ ha0
            obtain ⟨cd, d1, d2, d3, ⟨ty1, d5, d6⟩, d7, d8⟩ := hR.2.2.2.1 _ _ ha1
            cases ht.symm.trans g5
            cases ht.symm.trans d5
            have hcd := d8 rfl
            obtain ⟨-, k0, hk0, cm0, hkk0⟩ := State.isArrayOf_alike hW.alike g6
            obtain ⟨-, k1, hk1, cm1, hkk1⟩ := State.isArrayOf_alike hW.alike d6
            intro T hT X
            obtain ⟨vm', X', step⟩ := X.arraycopy hx hown W1 W2 W3 W4 (src := a0) (dst := a) (cs := cs) (cd := cd) (srcPos := sp) (destPos := dp) (n := n) (by rw [hT]; exact g1) (by rw [hT]; exact d1)
              (fun _ h => by rw [h] at g3; cases g3) (fun _ h => by rw [h] at d3; cases d3) g2 d2 hk0 hk1 hkk0 hkk1 (by simp [hprim]) i1 i2 i3
              (by rw [nn sp i1, nn n i3, g7, xsz]; dsimp only; omega)
              (by rw [nn dp i2, nn n i3, d7, xsz]; dsimp only; omega)
              (fun vm₁ _ i hi => by
                have e : cs.slots.getD (sp.toNatClampNeg + i) .null = .int (f (sp.toNatClampNeg + i)) := by
                  rw [g7]
                  show (arrV 0 n0 (fun j => .int (f j))).slots.getD _ _ = _
                  rw [Array.getD_eq_getD_getElem?, arrV_read _ _ (by omega)]
                  rfl
                rw [e]
                exact ⟨List.all_eq_true.mp i6 i (List.mem_range.mpr hi), trivial⟩)
              (g := F0 m pc ls (.int n :: .int dp :: .ref a :: .int sp :: .ref a0 :: st)) rfl (by rw [hml]; exact hlv.1) (rest := st) rfl (by rw [hb]; exact hd) hroom.1 (by
                have hr2 : 60 ≤ R.locals := hroom.2
                show 2 * 0 + _ + _ ≤ _
                have : nativeFrameWords "java/lang/System" "arraycopy" 5 + 11 ≤ 52 := by decide +kernel
                omega)
            have e1 : copied cs cd sp dp n = vp_cell (D.2.2 u1) (n1, .inl (va_cpy f g sp.toNatClampNeg dp.toNatClampNeg n.toNatClampNeg)) := by
              rw [hcd]
              exact xcopied g7 i4
            rw [e1] at X' step
            have hl : a < H.size := (Array.getElem?_eq_some_iff.mp d1).1
            have hheap : ((T.setVm vm').setCell a (vp_cell (D.2.2 u1) (n1, .inl (va_cpy f g sp.toNatClampNeg dp.toNatClampNeg n.toNatClampNeg)))).heap = H.setIfInBounds a (vp_cell (D.2.2 u1) (n1, .inl (va_cpy f g sp.toNatClampNeg dp.toNatClampNeg n.toNatClampNeg))) := by rw [← hT]; rfl
            have hR' := hR.put (H' := H.setIfInBounds a (vp_cell (D.2.2 u1) (n1, .inl (va_cpy f g sp.toNatClampNeg dp.toNatClampNeg n.toNatClampNeg)))) ha1 rfl (by simp) (fun q hq => by simp [Array.getElem?_setIfInBounds, Ne.symm hq]) (xarrAt G ht (x := (n1, .inl (va_cpy f g sp.toNatClampNeg dp.toNatClampNeg n.toNatClampNeg))) (by simp [Array.getElem?_setIfInBounds, hl]))
            obtain ⟨t, a1, b1⟩ := K _ nx o h' (0 + c2) (0 + s2) (by rw [Nat.zero_add, Nat.zero_add]; exact hkk) _ _ cells slots ls hR' hlv (fun q hq => by
              rcases List.mem_append.mp hq with h | h
              · exact hL q h
              · obtain ⟨z, -, hz⟩ := List.mem_map.mp h
                rw [← hz]
                exact hR.2.2.2.2 _ _ ha1 rfl) h1 h2 _ hheap X'
            exact ⟨t, step t a1, b1⟩
          · cases hf
        · cases hf
    · cases hf
  · unfold xcpI at hf
    split at hf
    · split at hf
      · cases hf
      · split at hf
        · split at hf <;> cases hf
        · cases hf
    · cases hf
end XN2
