/-! part 19b: arraycopy of references, an array's clone, getClass of an Object[] -/
section XN19b
variable {α : Type} {x : xC} {emb : α → Option Value} {own : String} {cc : ByteArray} {ret : Option FieldType} {pc : Nat} {lv lv' : List (Nat × Value)} {st : List Value}
def xcpR (t : Nat) (ok : Nat → Bool) (sr : Option Nat) (sp : Int32) (dr : Option Nat) (dp n : Int32) : xM Unit := fun _ h _ => match xarr h sr with
  | some (_, u, n0, .inr (.inr (.inr (.inr f)))) => (match dr with
    | none => none
    | some a => match h a with
      | some (true, .inl (u1, n1, .inr (.inr (.inr (.inr g))))) => if u = t ∧ u1 = t ∧ ¬ sp < 0 ∧ ¬ dp < 0 ∧ ¬ n < 0 ∧ sp.toNatClampNeg + n.toNatClampNeg ≤ n0 ∧ dp.toNatClampNeg + n.toNatClampNeg ≤ n1 ∧ (List.range n.toNatClampNeg).all (fun i => xokR h ok (f (sp.toNatClampNeg + i))) = true then some (.inl (), xupd h a (true, .inl (t, n1, .inr (.inr (.inr (.inr (va_cpy f g sp.toNatClampNeg dp.toNatClampNeg n.toNatClampNeg)))))), 0, 0) else none
      | _ => none)
  | _ => none
theorem xr_cpR {t idx : Nat} {E : String} {ok : Nat → Bool} {sr dr : Option Nat} {sp dp n : Int32} {kk : Unit → xM α} (F : xF x own cc ret) (hd : decode cc pc = .ok (.invokestatic idx, 3)) (ht : xty[t]? = some (.object E)) (hok : xOk ok E) (w1 : Cond.methodLink own idx arraycopyName ∈ lw_all) (w2 : Cond.native arraycopyName ∈ lw_all) (w3 : Cond.static arraycopyName ∈ lw_all) (w4 : Cond.initialized "java/lang/System" ∈ lw_all) (hroom : xRoom x 1 60) (hcat : (st.map fun v => v.category).sum ≤ 8) (K : xI x emb (pc + 3) lv st (kk ())) : xI x emb pc lv (.int n :: .int dp :: va_rf dr :: .int sp :: va_rf sr :: st) (xbind (xcpR t ok sr sp dr dp n) kk) := by
  have nn : ∀ z : Int32, ¬ z < 0 → z.toInt = (z.toNatClampNeg : Int) := by
    intro z hz
    have hz0 : (0 : Int) ≤ z.toInt := by
      have := Int32.not_lt.mp hz
      simpa using Int32.le_iff_toInt_le.mp this
    show z.toInt = ((z.toInt.toNat : Nat) : Int)
    omega
  obtain ⟨p, l, e, R, s, m, args, below, meth, c, D, s0, Γ, nL, b0⟩ := x
  intro h nx o h' dc ds he H locs cells slots ls hR hlv hL h1 h2
  have F9 := F
  have W1 := xwd F w1 (a := args)
  have W2 := xwd F w2 (a := args)
  have W3 := xwd F w3 (a := args)
  have W4 := xwd F w4 (a := args)
  obtain ⟨hx, hb, hml, hown, hlk, hret, G, hW, -⟩ := F
  rcases xbind_some he with ⟨u, h1', c1, s1, r', h2', c2, s2, hf, hkk, hz⟩ | ⟨q, h1', c1, s1, hf, hz⟩
  · unfold xcpR at hf
    split at hf
    · rename_i a0 u0 n0 f hos
      split at hf
      · cases hf
      · rename_i a
        split at hf
        · rename_i u1 n1 g ha1
          split at hf
          · rename_i hcc
            cases hf
            cases hz
            obtain ⟨rfl, rfl, i1, i2, i3, i4, i5, i6⟩ := hcc
            obtain ⟨rfl, w0, ha0⟩ := xarr_some hos
            obtain ⟨cs, g1, g2, g3, ⟨ty0, g5, g6⟩, g7, -⟩ := hR.2.2.2.1 _ _ ha0
            obtain ⟨cd, d1, d2, d3, ⟨ty1, d5, d6⟩, d7, d8⟩ := hR.2.2.2.1 _ _ ha1
            cases ht.symm.trans g5
            cases ht.symm.trans d5
            have hcd := d8 rfl
            obtain ⟨-, k0, hk0, cm0, hkk0⟩ := State.isArrayOf_alike hW.alike g6
            obtain ⟨-, k1, hk1, cm1, hkk1⟩ := State.isArrayOf_alike hW.alike d6
            intro T hT X
            obtain ⟨vm', X', step⟩ := X.arraycopy hx hown W1 W2 W3 W4 (src := a0) (dst := a) (cs := cs) (cd := cd) (srcPos := sp) (destPos := dp) (n := n) (by rw [hT]; exact g1) (by rw [hT]; exact d1)
              (fun _ h => by rw [h] at g3; cases g3) (fun _ h => by rw [h] at d3; cases d3) g2 d2 hk0 hk1 hkk0 hkk1 (by rfl) i1 i2 i3
              (by rw [nn sp i1, nn n i3, g7, xsz]; dsimp only; omega)
              (by rw [nn dp i2, nn n i3, d7, xsz]; dsimp only; omega)
              (fun vm₁ hA i hi => by
                have e : cs.slots.getD (sp.toNatClampNeg + i) .null = va_rf (f (sp.toNatClampNeg + i)) := by
                  rw [g7]
                  show (arrV 0 n0 (fun j => va_rf (f j))).slots.getD _ _ = _
                  rw [Array.getD_eq_getD_getElem?, arrV_read _ _ (by omega)]
                  rfl
                rw [e]
                have hv := List.all_eq_true.mp i6 i (List.mem_range.mpr hi)
                revert hv
                cases f (sp.toNatClampNeg + i) with
                | none => exact fun _ => ⟨rfl, trivial⟩
                | some v =>
                  intro hv
                  refine ⟨rfl, ?_⟩
                  have hv : (match xobj h (some v) with | some (_, c, _) => ok c | none => false) = true := hv
                  split at hv
                  · rename_i av cv fv hov
                    obtain ⟨hq1, wv, hav⟩ := xobj_some hov
                    cases hq1
                    obtain ⟨q, hq, hw⟩ := hok _ hv
                    obtain ⟨cellV, v1, v2, v3, -⟩ := xcls F9 hR hav hq
                    obtain ⟨kV, hkV, -⟩ := Vm.findClass_spec v3
                    obtain ⟨c3, c4, hc3, hc4, hasg⟩ := Cond.castable_spec (va_Nw.use (A := args) rfl (xcast F9 hw))
                    cases hc3.symm.trans v3
                    have hcm : cm1 = c4 := by
                      obtain ⟨kA, comp, k1, k2, k3, -⟩ := va_RA.moved hW.alike (G.2.2.2.1 _ _ ht).2
                      rw [hcd] at hk1
                      cases hk1.symm.trans k1
                      rw [k2] at hkk1
                      cases hkk1
                      exact Option.some.inj (k3.symm.trans hc4)
                    subst hcm
                    obtain ⟨kE, hkE, -⟩ := Vm.findClass_spec hc4
                    obtain ⟨kV', hkV', -⟩ := hA.2.2 _ _ hkV
                    obtain ⟨kE', hkE', -⟩ := hA.2.2 _ _ hkE
                    exact ⟨cellV, by show T.heap[v]? = _; rw [hT]; exact v1, (fun k hk => by rw [hk] at v2; cases v2), ⟨kV', hkV'⟩, ⟨kE', hkE'⟩, by show vm₁.assignable _ _ = true; rw [hA.assignable]; exact hasg⟩
                  · cases hv)
              (g := F0 m pc ls (.int n :: .int dp :: .ref a :: .int sp :: .ref a0 :: st)) rfl (by rw [hml]; exact hlv.1) (rest := st) rfl (by rw [hb]; exact hd) hroom.1 (by
                have hr2 : 60 ≤ R.locals := hroom.2
                show 2 * 0 + _ + _ ≤ _
                have : nativeFrameWords "java/lang/System" "arraycopy" 5 + 11 ≤ 52 := by decide +kernel
                omega)
            have e1 : copied cs cd sp dp n = vp_cell (D.2.2 u1) (n1, .inr (.inr (.inr (.inr (va_cpy f g sp.toNatClampNeg dp.toNatClampNeg n.toNatClampNeg))))) := by
              rw [hcd]
              exact va_copiedX (fun z => va_rf z) cs _ f g (fun j hj => by rw [g7]; exact arrV_read _ _ hj) i4
            rw [e1] at X' step
            have hl : a < H.size := (Array.getElem?_eq_some_iff.mp d1).1
            have hheap : ((T.setVm vm').setCell a (vp_cell (D.2.2 u1) (n1, .inr (.inr (.inr (.inr (va_cpy f g sp.toNatClampNeg dp.toNatClampNeg n.toNatClampNeg))))))).heap = H.setIfInBounds a (vp_cell (D.2.2 u1) (n1, .inr (.inr (.inr (.inr (va_cpy f g sp.toNatClampNeg dp.toNatClampNeg n.toNatClampNeg)))))) := by rw [← hT]; rfl
            have hR' := hR.put (H' := H.setIfInBounds a (vp_cell (D.2.2 u1) (n1, .inr (.inr (.inr (.inr (va_cpy f g sp.toNatClampNeg dp.toNatClampNeg n.toNatClampNeg))))))) ha1 rfl (by simp) (fun q hq => by simp [Array.getElem?_setIfInBounds, Ne.symm hq]) (xarrAt G ht (x := (n1, .inr (.inr (.inr (.inr (va_cpy f g sp.toNatClampNeg dp.toNatClampNeg n.toNatClampNeg)))))) (by simp [Array.getElem?_setIfInBounds, hl]))
            obtain ⟨t, a1, b1⟩ := K _ nx o h' (0 + c2) (0 + s2) (by rw [Nat.zero_add, Nat.zero_add]; exact hkk) _ _ cells slots ls hR' hlv (fun q hq => by
              rcases List.mem_append.mp hq with h | h
              · exact hL q h
              · obtain ⟨z, -, hz⟩ := List.mem_map.mp h
                rw [← hz]
                exact hR.2.2.2.2 _ _ ha1 rfl) h1 h2 _ hheap X'
            exact ⟨t, step t a1, b1⟩
          · cases hf
        · cases hf
    · cases hf
  · unfold xcpR at hf
    split at hf
    · split at hf
      · cases hf
      · split at hf
        · split at hf <;> cases hf
        · cases hf
    · cases hf
/-- clone of a byte array -/
def xclB (r : Option Nat) : xM (Option Nat) := fun _ h n => match r with
  | none => none
  | some a => match h a with
    | some (true, .inl (0, N, .inl f)) => if (List.range N).all (fun i => fits .byte (.int (f i))) = true then some (.inl (some n), xupd h n (true, .inl (0, N, .inl f)), 1, N) else none
    | _ => none
theorem xr_clB {idx : Nat} {r : Option Nat} {kk : Option Nat → xM α} (F : xF x own cc ret) (hd : decode cc pc = .ok (.invokevirtual idx, 3)) (w1 : Cond.methodLink own idx ⟨"[B", "clone", "()Ljava/lang/Object;"⟩ ∈ lw_all) (w2 : Cond.sameMethod "[B" "java/lang/Object" "clone" "()Ljava/lang/Object;" ∈ lw_all) (w3 : Cond.native ⟨"java/lang/Object", "clone", "()Ljava/lang/Object;"⟩ ∈ lw_all) (w4 : Cond.instanceMethod ⟨"java/lang/Object", "clone", "()Ljava/lang/Object;"⟩ ∈ lw_all) (w5 : Cond.selects "[B" ⟨"[B", "clone", "()Ljava/lang/Object;"⟩ ⟨"java/lang/Object", "clone", "()Ljava/lang/Object;"⟩ ∈ lw_all) (w6 : Cond.castable "[B" "java/lang/Cloneable" ∈ lw_tbl) (hroom : xRoom x 1 60) (hcat : (st.map fun v => v.category).sum ≤ 8) (K : ∀ a, xI x emb (pc + 3) lv (va_rf a :: st) (kk a)) : xI x emb pc lv (va_rf r :: st) (xbind (xclB r) kk) := by
  obtain ⟨p, l, e, R, s, m, args, below, meth, c, D, s0, Γ, nL, b0⟩ := x
  intro h nx o h' dc ds he H locs cells slots ls hR hlv hL h1 h2
  have W1 := xwd F w1 (a := args)
  have W2 := xwd F w2 (a := args)
  have W3 := xwd F w3 (a := args)
  have W4 := xwd F w4 (a := args)
  have W5 := xwd F w5 (a := args)
  have W6 := xcast F w6
  obtain ⟨hx, hb, hml, hown, hlk, hret, G, hW, -⟩ := F
  rcases xbind_some he with ⟨u, h1', c1, s1, r', h2', c2, s2, hf, hkk, hz⟩ | ⟨q, h1', c1, s1, hf, hz⟩
  · unfold xclB at hf
    split at hf
    · cases hf
    · rename_i a
      split at hf
      · rename_i N f ha
        split at hf
        · rename_i hfit
          cases hf
          cases hz
          obtain ⟨cell, g1, g2, g3, ⟨ty, g5, g6⟩, g7, g8⟩ := hR.2.2.2.1 _ _ ha
          cases g5
          have hcell := g8 rfl
          have hnm : s.vm.findClass "[B" = some (D.2.2 0) := va_nm_byte (va_RA.moved hW.alike (G.2.2.2.1 0 _ rfl).2)
          obtain ⟨c0, t0', f1, f2, f3⟩ := Cond.castable_spec (va_Nw.use (A := args) rfl W6)
          cases hnm.symm.trans f1
          have hsz : (vp_cell (D.2.2 0) (s1, .inl f)).slots.size = s1 := arrV_size _ _ _
          intro T hT X
          have hcellT : T.heap[a]? = some (vp_cell (D.2.2 0) (s1, .inl f)) := by rw [hT, ← hcell]; exact g1
          have g6' : s.isArrayOf (vp_cell (D.2.2 0) (s1, .inl f)) .byte := by rw [← hcell]; exact State.isArrayOf_alike hW.alike g6
          obtain ⟨-, kA, hkA, comp, hkind⟩ := State.isArrayOf_alike X.warmed.alike g6'
          obtain ⟨-, kS, hkS, compS, hkindS⟩ := g6'
          obtain ⟨vm', X', step⟩ := X.cloneArray hx hown W1 W2 W3 W4 W5 (a := a) (cell := vp_cell (D.2.2 0) (s1, .inl f)) hcellT (fun k h => by cases h) (fun h => by cases h) hnm f2 f3
            (fun i v hv => by
              have hk' : T.vm.classes[D.2.2 0]? = some kA := hkA
              have hfv : fits .byte v = true := va_fit (F := fun j => .int (f j)) (n := s1) (fun i hi => List.all_eq_true.mp hfit i (List.mem_range.mpr hi)) i v hv
              simpa [State.fitsSlot, State.slotType?, hk', hkind, vp_cell, arrV] using hfv)
            (g := F0 m pc ls (.ref a :: st)) rfl (by rw [hml]; exact hlv.1) rfl (by rw [hb]; exact hd) hroom.1 (by
              have hr2 : 60 ≤ R.locals := hroom.2
              show 2 * 0 + _ + 14 ≤ _
              omega) (by show cells + 1 ≤ R.cells; omega) (by rw [hsz]; show slots + s1 ≤ R.slots; omega) (hloader := Vm.clonesLoader_of_array hkS hkindS)
          rw [hsz] at X'
          have hcellE : ({ cls := (vp_cell (D.2.2 0) (s1, .inl f)).cls, slots := (vp_cell (D.2.2 0) (s1, .inl f)).slots } : Cell) = vp_cell (D.2.2 0) (s1, .inl f) := rfl
          rw [hcellE] at X'
          have hR' := hR.push (H' := H.push (vp_cell (D.2.2 0) (s1, .inl f))) (c := (true, .inl (0, s1, .inl f))) (by rw [Array.size_push, hR.1]) (fun q hq => by rw [Array.getElem?_push, if_neg (by rw [hR.1]; exact Nat.ne_of_lt hq)]) (xarrAt G rfl (x := (s1, .inl f)) (by rw [← hR.1, Array.getElem?_push_size]))
          obtain ⟨t, a1, b1⟩ := K (some nx) _ (nx + 1) o h' c2 s2 hkk (H.push (vp_cell (D.2.2 0) (s1, .inl f))) locs (cells + 1) (slots + s1) ls hR' hlv hL (by omega) (by omega) ((T.setVm vm').pushCell (vp_cell (D.2.2 0) (s1, .inl f))) (by rw [← hT]; rfl) X'
          have e1 : nx + (1 + c2) = nx + 1 + c2 := by omega
          have e2 : cells + (1 + c2) = cells + 1 + c2 := by omega
          have e3 : slots + (s1 + s2) = slots + s1 + s2 := by omega
          rw [e1, e2, e3]
          refine ⟨t, step t ?_, b1⟩
          rw [hcellE, hT, hR.1]
          exact a1
        · cases hf
      · cases hf
  · unfold xclB at hf
    split at hf
    · cases hf
    · split at hf
      · split at hf <;> cases hf
      · cases hf
/-- getClass of an Object[] -/
def xgcO (r : Option Nat) : xM (Option Nat) := fun Γ h _ => match r with
  | none => none
  | some a => match h a with
    | some (true, .inl (5, _)) => some (.inl (Γ 90), h, 0, 0)
    | _ => none
theorem xr_gcO {idx : Nat} {r : Option Nat} {kk : Option Nat → xM α} (F : xF x own cc ret) (hd : decode cc pc = .ok (.invokevirtual idx, 3)) (w1 : Cond.methodLink own idx ⟨"java/lang/Object", "getClass", "()Ljava/lang/Class;"⟩ ∈ lw_all) (w2 : Cond.declares ⟨"java/lang/Object", "getClass", "()Ljava/lang/Class;"⟩ ∈ lw_tbl) (w3 : Cond.selects "[Ljava/lang/Object;" ⟨"java/lang/Object", "getClass", "()Ljava/lang/Class;"⟩ ⟨"java/lang/Object", "getClass", "()Ljava/lang/Class;"⟩ ∈ lw_all) (w4 : Cond.instanceMethod ⟨"java/lang/Object", "getClass", "()Ljava/lang/Class;"⟩ ∈ lw_all) (w5 : Cond.native ⟨"java/lang/Object", "getClass", "()Ljava/lang/Class;"⟩ ∈ lw_all) (hroom : xRoom x 1 60) (hcat : (st.map fun v => v.category).sum ≤ 8) (K : ∀ a, xI x emb (pc + 3) lv (va_rf a :: st) (kk a)) : xI x emb pc lv (va_rf r :: st) (xbind (xgcO r) kk) := by
  obtain ⟨p, l, e, R, s, m, args, below, meth, c, D, s0, Γ, nL, b0⟩ := x
  intro h nx o h' dc ds he H locs cells slots ls hR hlv hL h1 h2
  have W1 := xwd F w1 (a := args)
  have W2 := xwg F w2 rfl
  have W3 := xwd F w3 (a := args)
  have W4 := xwd F w4 (a := args)
  have W5 := xwd F w5 (a := args)
  obtain ⟨hx, hb, hml, hown, hlk, hret, G, hW, -⟩ := F
  obtain ⟨mi, hmi, hMi⟩ := G.2.2.2.2.2.2.2.2.2.2.2.1
  rcases xbind_some he with ⟨u, h1', c1, s1, r', h2', c2, s2, hf, hkk, hz⟩ | ⟨q, h1', c1, s1, hf, hz⟩
  · unfold xgcO at hf
    split at hf
    · cases hf
    · rename_i a
      split at hf
      · rename_i xx ha
        cases hf
        cases hz
        obtain ⟨cell, g1, g2, g3, ⟨ty, g5, g6⟩, g7, g8⟩ := hR.2.2.2.1 _ _ ha
        cases g5
        have hcell := g8 rfl
        obtain ⟨kA, comp, k1, k2, k3, k4⟩ := va_RA.moved hW.alike (G.2.2.2.1 5 _ rfl).2
        have hnm : s.vm.findClass "[Ljava/lang/Object;" = some cell.cls := by
          have e : "[" ++ (FieldType.object "java/lang/Object").toString = "[Ljava/lang/Object;" := by decide +kernel
          rw [← e, k4, hcell]
          obtain ⟨nn, y⟩ := xx
          rcases y with f | f | f | f | f <;> rfl
        have hM : va_Mi "[Ljava/lang/Object;" mi s := by
          obtain ⟨c9, k9, q1, q2, q3⟩ := hMi
          obtain ⟨k9', q2', he9⟩ := hW.alike.2.2 _ _ q2
          exact ⟨c9, k9', by rw [hW.alike.findClass]; exact q1, q2', by rw [he9]; exact q3⟩
        have K2 := K (Γ 90) h nx o h' (0 + c2) (0 + s2) (by rw [Nat.zero_add, Nat.zero_add]; exact hkk) H locs cells slots ls hR hlv hL h1 h2
        rw [hmi] at K2
        exact va_getC hx hb (by rw [hml]; exact hlv.1.symm) hown W1 W2 W3 W4 W5 hM ⟨cell, g1, g3, hnm⟩ hroom.1 (by
          have hr2 : 60 ≤ R.locals := hroom.2
          show _ + 14 ≤ R.locals
          omega) hd K2
      · cases hf
  · unfold xgcO at hf
    split at hf
    · cases hf
    · split at hf <;> cases hf
theorem xr_ldcM {idx : Nat} {kk : Option Nat → xM α} (F : xF x own cc ret) (hd : decode cc pc = .ok (.ldc idx, 2)) (w1 : Cond.classLink own idx "[Ljava/lang/Object;" ∈ lw_all) (K : ∀ a, xI x emb (pc + 2) lv (va_rf a :: st) (kk a)) : xI x emb pc lv st (xbind (xcon 90) kk) := by
  obtain ⟨p, l, e, R, s, m, args, below, meth, c, D, s0, Γ, nL, b0⟩ := x
  intro h nx o h' dc ds he H locs cells slots ls hR hlv hL h1 h2
  have W1 := xwd F w1 (a := args)
  obtain ⟨hx, hb, hml, hown, hlk, hret, G, hW, -⟩ := F
  obtain ⟨mi, hmi, hMi⟩ := G.2.2.2.2.2.2.2.2.2.2.2.1
  rcases xbind_some he with ⟨u, h1', c1, s1, r', h2', c2, s2, hf, hkk, hz⟩ | ⟨q, h1', c1, s1, hf, hz⟩
  · cases hf
    cases hz
    have hM : va_Mi "[Ljava/lang/Object;" mi s := by
      obtain ⟨c9, k9, q1, q2, q3⟩ := hMi
      obtain ⟨k9', q2', he9⟩ := hW.alike.2.2 _ _ q2
      exact ⟨c9, k9', by rw [hW.alike.findClass]; exact q1, q2', by rw [he9]; exact q3⟩
    have K2 := K (Γ 90) h nx o h' (0 + c2) (0 + s2) (by rw [Nat.zero_add, Nat.zero_add]; exact hkk) H locs cells slots ls hR hlv hL h1 h2
    rw [hmi] at K2
    exact va_ldcM hx hb hown W1 hM hd K2
  · cases hf
end XN19b
