/-! part 11: statics, string constants, arrays of references, new arrays, casts, arraycopy -/
section XM1
variable {α : Type} {x : xC} {emb : α → Option Value} {own : String} {cc : ByteArray} {ret : Option FieldType} {pc : Nat} {lv lv' : List (Nat × Value)} {st : List Value}
theorem xr_gs {k idx : Nat} {C n d : String} {kk : Option Nat → xM α} (F : xF x own cc ret) (hd : decode cc pc = .ok (.getstatic idx, 3)) (hk : xstat[k]? = some (C, n, d)) (w1 : Cond.fieldLink own idx C n d ∈ lw_all) (K : ∀ r, xI x emb (pc + 3) lv (va_rf r :: st) (kk r)) : xI x emb pc lv st (xbind (xcon k) kk) := by
  obtain ⟨p, l, e, R, s, m, args, below, meth, c, D, s0, Γ, nL, b0⟩ := x
  intro h nn o h' dc ds he H locs cells slots ls hR hlv hL h1 h2
  have W1 := xwd F w1 (a := args)
  obtain ⟨hx, hb, hml, hown, hlk, hret, G, hW, -⟩ := F
  obtain ⟨cf, kf, fi, f, a, cell, g1, g2, g3, g4, g5, g6, g7, g8⟩ := va_Z.moved hW.alike (G.2.2.2.2.2.1 k C n d hk)
  rcases xbind_some he with ⟨u, h1', c1, s1, r', h2', c2, s2, hf, hkk, hz⟩ | ⟨q, h1', c1, s1, hf, hz⟩
  · cases hf
    cases hz
    exact W.gets hx hb hown W1 g1 g2 g3 g4 (by rw [hR.2.2.1 a (Nat.not_le.mp g8)]; exact g5) (fun e => by rw [e] at g6; cases g6) g7 rfl hd (K _ h nn o h' (0 + c2) (0 + s2) (by rw [Nat.zero_add, Nat.zero_add]; exact hkk) H locs cells slots ls hR hlv hL h1 h2)
  · cases hf
theorem xr_gsi {k idx : Nat} {C n d : String} {v : Int32} {cm : xM α} (F : xF x own cc ret) (hd : decode cc pc = .ok (.getstatic idx, 3)) (hk : xsti[k]? = some (C, n, d, v)) (w1 : Cond.fieldLink own idx C n d ∈ lw_all) (K : xI x emb (pc + 3) lv (.int v :: st) cm) : xI x emb pc lv st cm := by
  obtain ⟨p, l, e, R, s, m, args, below, meth, c, D, s0, Γ, nL, b0⟩ := x
  intro h nn o h' dc ds he H locs cells slots ls hR hlv hL h1 h2
  have W1 := xwd F w1 (a := args)
  obtain ⟨hx, hb, hml, hown, hlk, hret, G, hW, -⟩ := F
  obtain ⟨cf, kf, fi, f, a, cell, g1, g2, g3, g4, g5, g6, g7, g8⟩ := va_Z.moved hW.alike (G.2.2.2.2.2.2.1 k C n d v hk)
  exact W.gets hx hb hown W1 g1 g2 g3 g4 (by rw [hR.2.2.1 a (Nat.not_le.mp g8)]; exact g5) (fun e => by rw [e] at g6; cases g6) g7 rfl hd (K h nn o h' dc ds he H locs cells slots ls hR hlv hL h1 h2)
theorem xr_str {k idx : Nat} {tx : String} {kk : Option Nat → xM α} (F : xF x own cc ret) (hd : decode cc pc = .ok (.ldc idx, 2)) (hk : xstr[k]? = some (own, idx, tx)) (K : ∀ r, xI x emb (pc + 2) lv (va_rf r :: st) (kk r)) : xI x emb pc lv st (xbind (xcon (100 + k)) kk) := by
  obtain ⟨p, l, e, R, s, m, args, below, meth, c, D, s0, Γ, nL, b0⟩ := x
  intro h nn o h' dc ds he H locs cells slots ls hR hlv hL h1 h2
  obtain ⟨hx, hb, hml, hown, hlk, hret, G, hW, -⟩ := F
  obtain ⟨a, ha, hZ⟩ := G.2.2.2.2.2.2.2.1 k own idx tx hk
  rcases xbind_some he with ⟨u, h1', c1, s1, r', h2', c2, s2, hf, hkk, hz⟩ | ⟨q, h1', c1, s1, hf, hz⟩
  · cases hf
    cases hz
    have K2 := K (Γ (100 + k)) h nn o h' (0 + c2) (0 + s2) (by rw [Nat.zero_add, Nat.zero_add]; exact hkk) H locs cells slots ls hR hlv hL h1 h2
    rw [ha] at K2
    exact va_ldcS hx hb hown (vk_R.warm hW hZ) hd K2
  · cases hf
theorem xr_aald {r : Option Nat} {i : Int32} {kk : Option Nat → xM α} (F : xF x own cc ret) (hd : decode cc pc = .ok (.aaload, 1)) (K : ∀ v, xI x emb (pc + 1) lv (va_rf v :: st) (kk v)) : xI x emb pc lv (.int i :: va_rf r :: st) (xbind (xldR r i) kk) := by
  obtain ⟨p, l, e, R, s, m, args, below, meth, c, D, s0, Γ, nL, b0⟩ := x
  intro h n o h' dc ds he H locs cells slots ls hR hlv hL h1 h2
  obtain ⟨hx, hb, hml, hown, hlk, hret, G, hW, -⟩ := F
  rcases xbind_some he with ⟨u, h1', c1, s1, r', h2', c2, s2, hf, hkk, hz⟩ | ⟨q, h1', c1, s1, hf, hz⟩
  · unfold xldR at hf
    split at hf
    · rename_i a0 t nn f ho
      split at hf
      · rename_i hin
        cases hf
        cases hz
        obtain ⟨rfl, w, ha⟩ := xarr_some ho
        obtain ⟨cell, g1, g2, g3, ⟨ty, g5, g6⟩, g7, -⟩ := hR.2.2.2.1 _ _ ha
        have hlt : i.toNatClampNeg < nn := Nat.not_le.mp fun q => hin.1 (Or.inr q)
        exact W.aald (v := va_rf (f i.toNatClampNeg)) hx hb g1 (State.isArrayOf_alike hW.alike g6) (by
          have h9 : xty[t]? = some ty := g5
          have h10 : 5 ≤ t := hin.2
          match t, h9, h10 with
          | 5, h9, _ => cases h9; rfl
          | 6, h9, _ => cases h9; rfl
          | 7, h9, _ => cases h9; rfl
          | t + 8, h9, _ => simp [xty] at h9) g2 (by rw [g7, xsz]; exact hin.1) (by rw [g7]; exact arrV_read _ _ hlt) rfl rfl hd (K _ h n o h' (0 + c2) (0 + s2) (by rw [Nat.zero_add, Nat.zero_add]; exact hkk) H locs cells slots ls hR hlv hL h1 h2)
      · cases hf
    · cases hf
  · unfold xldR at hf
    split at hf
    · split at hf <;> cases hf
    · cases hf
/-- what may be stored in an array of E: classes by their numbers -/
def xOk (ok : Nat → Bool) (E : String) : Prop := ∀ ci, ok ci = true → ∃ q, xcl[ci]? = some q ∧ Cond.castable q.1 E ∈ lw_tbl
theorem xr_aast {t : Nat} {E : String} {ok : Nat → Bool} {r v : Option Nat} {i : Int32} {kk : Unit → xM α} (F : xF x own cc ret) (hd : decode cc pc = .ok (.aastore, 1)) (ht : xty[t]? = some (.object E)) (hok : xOk ok E) (K : xI x emb (pc + 1) lv st (kk ())) : xI x emb pc lv (va_rf v :: .int i :: va_rf r :: st) (xbind (xstR t ok r i v) kk) := by
  obtain ⟨p, l, e, R, s, m, args, below, meth, c, D, s0, Γ, nL, b0⟩ := x
  intro h n o h' dc ds he H locs cells slots ls hR hlv hL h1 h2
  have F9 := F
  obtain ⟨hx, hb, hml, hown, hlk, hret, G, hW, -⟩ := F
  rcases xbind_some he with ⟨u, h1', c1, s1, r', h2', c2, s2, hf, hkk, hz⟩ | ⟨q, h1', c1, s1, hf, hz⟩
  · unfold xstR at hf
    split at hf
    · cases hf
    · rename_i a0
      split at hf
      · rename_i t' nn f ha
        split at hf
        · rename_i hcc
          cases hf
          cases hz
          obtain ⟨rfl, hin, hv⟩ := hcc
          obtain ⟨cell, g1, g2, g3, ⟨ty, g5, g6⟩, g7, g8⟩ := hR.2.2.2.1 _ _ ha
          cases ht.symm.trans g5
          have hcell := g8 rfl
          obtain ⟨kA, comp, k1, k2, k3, -⟩ := va_RA.moved hW.alike (G.2.2.2.1 _ _ ht).2
          obtain ⟨kE, hkE, -⟩ := Vm.findClass_spec k3
          have hlt : i.toNatClampNeg < nn := Nat.not_le.mp fun q => hin (Or.inr q)
          have h0 : ¬ i < 0 := fun q => hin (Or.inl q)
          have fin : ∀ H' : Heap, H'[a0]? = some (cell.setSlot i.toNatClampNeg (va_rf v)) → H'.size = H.size → (∀ q, q ≠ a0 → H'[q]? = H[q]?) → W p l e R s m args below meth c H' (locs ++ [⟨a0, i.toNatClampNeg⟩]) cells slots (xZ below D s0 emb o h' (n + (0 + c2)) (cells + (0 + c2)) (slots + (0 + s2)) s) (F0 m (pc + 1) ls st) := by
            intro H' e1 e2 e3
            have hR' := hR.put ha rfl e2 e3 (xarrAt G (t := t') (x := (nn, .inr (.inr (.inr (.inr (va_up f i.toNatClampNeg v)))))) ht (by
              rw [e1, hcell]
              simp only [vp_cell]
              rw [arrV_store]
              congr 2
              funext q
              by_cases hq : q = i.toNatClampNeg
              · subst hq; simp [updV, va_up]
              · simp [updV, va_up, hq]))
            exact K _ n o h' (0 + c2) (0 + s2) (by rw [Nat.zero_add, Nat.zero_add]; exact hkk) H' _ cells slots ls hR' hlv (fun q hq => by
              rcases List.mem_append.mp hq with h | h
              · exact hL q h
              · rw [List.mem_singleton.mp h]; exact hR.2.2.2.2 _ _ ha rfl) h1 h2
          have hsize : cell.slots.size = nn := by rw [g7, xsz]
          cases v with
          | none => exact va_WaastN hx hb g1 (State.isArrayOf_alike hW.alike g6) g2 (by rw [hsize]; exact hin) rfl rfl hd fin
          | some v =>
            have hv : (match xobj h (some v) with | some (_, c, _) => ok c | none => false) = true := hv
            split at hv
            · rename_i av cv fv hov
              obtain ⟨hq1, wv, hav⟩ := xobj_some hov
              cases hq1
              obtain ⟨q, hq, hw⟩ := hok _ hv
              obtain ⟨cellV, v1, v2, v3, -⟩ := xcls F9 hR hav hq
              obtain ⟨kV, hkV, -⟩ := Vm.findClass_spec v3
              obtain ⟨c3, c4, hc3, hc4, hasg⟩ := Cond.castable_spec (va_Nw.use (A := args) rfl (xcast F9 hw))
              cases hc3.symm.trans v3
              cases hc4.symm.trans k3
              exact W.aast hx hb g1 (fun q h => by rw [h] at g3; cases g3) g2 (by rw [hcell]; exact k1) k2 rfl hkE ⟨h0, by rw [hsize]; exact hlt⟩ v1 (fun q h => by rw [h] at v2; cases v2) hkV hasg rfl rfl hd fin
            · cases hv
        · cases hf
      · cases hf
  · unfold xstR at hf
    split at hf
    · cases hf
    · split at hf
      · split at hf <;> cases hf
      · cases hf
theorem xr_newa {t : Nat} {at_ : ArrayType} {arr : Nat → vp_A} {i : Int32} {kk : Nat → xM α} (F : xF x own cc ret) (hd : decode cc pc = .ok (.newarray at_, 2)) (ht : xty[t]? = some (newarray.typeOf at_)) (hdef : ∀ (d : ClassId) (N : Nat), arrV d N (fun _ => defaultValue (newarray.typeOf at_)) = vp_cell d (arr N)) (hby : componentBytes (newarray.typeOf at_) ≤ 8) (w1 : Cond.arrayClass (newarray.typeOf at_) ∈ lw_all) (K : ∀ a, xI x emb (pc + 2) lv (va_rf (some a) :: st) (kk a)) : xI x emb pc lv (.int i :: st) (xbind (xnewA t arr i) kk) := by
  obtain ⟨p, l, e, R, s, m, args, below, meth, c, D, s0, Γ, nL, b0⟩ := x
  intro h n o h' dc ds he H locs cells slots ls hR hlv hL h1 h2
  have W1 := xwd F w1 (a := args)
  obtain ⟨hx, hb, hml, hown, hlk, hret, G, hW, -⟩ := F
  rcases xbind_some he with ⟨u, h1', c1, s1, r', h2', c2, s2, hf, hkk, hz⟩ | ⟨q, h1', c1, s1, hf, hz⟩
  · unfold xnewA at hf
    split at hf
    · rename_i hcc
      cases hf
      cases hz
      obtain ⟨hi0, hi1⟩ := hcc
      refine W.newa hx hb W1 rfl hd rfl hi0 (by
        refine Nat.le_trans (Nat.mul_le_mul hi1 hby) ?_
        exact Nat.le_of_ble_eq_true rfl) (by omega) (by omega) (fun cA kA comp q1 q2 q3 => ?_)
      have hcA : cA = D.2.2 t := by
        have h9 := va_RA.moved hW.alike (G.2.2.2.1 t _ ht).2
        have h10 : s.vm.findClass ("[" ++ (newarray.typeOf at_).toString) = some (D.2.2 t) := by
          cases at_ <;> exact h9
        exact Option.some.inj (q1.symm.trans h10)
      subst hcA
      have hH : (H.push { cls := D.2.2 t, slots := Array.replicate i.toNatClampNeg (defaultValue (newarray.typeOf at_)), vm := .none })[n]? = some (vp_cell (D.2.2 t) (arr i.toNatClampNeg)) := by
        rw [← hdef, ← hR.1]
        simp [arrV]
        apply Array.ext_getElem?
        intro j
        by_cases hj : j < i.toNatClampNeg
        · simp [hj]
        · simp [hj]
      have hR' := hR.push (H' := H.push { cls := D.2.2 t, slots := Array.replicate i.toNatClampNeg (defaultValue (newarray.typeOf at_)), vm := .none }) (by simp [hR.1]) (fun q hq => by simp [Array.getElem?_push, hR.1]; omega) (xarrAt G ht hH)
      have K2 := K n _ (n + 1) o h' c2 s2 hkk _ locs (cells + 1) (slots + i.toNatClampNeg) ls hR' hlv hL (by omega) (by omega)
      have e1 : n + (1 + c2) = n + 1 + c2 := by omega
      have e2 : cells + (1 + c2) = cells + 1 + c2 := by omega
      have e3 : slots + (i.toNatClampNeg + s2) = slots + i.toNatClampNeg + s2 := by omega
      rw [e1, e2, e3, hR.1]
      exact K2
    · cases hf
  · unfold xnewA at hf
    split at hf <;> cases hf
theorem xr_anew {t idx : Nat} {C : String} {i : Int32} {kk : Nat → xM α} (F : xF x own cc ret) (hd : decode cc pc = .ok (.anewarray idx, 3)) (ht : xty[t]? = some (.object C)) (w1 : Cond.classLink own idx C ∈ lw_all) (w2 : Cond.arrayOver (.object C) ∈ lw_tbl) (K : ∀ a, xI x emb (pc + 3) lv (va_rf (some a) :: st) (kk a)) : xI x emb pc lv (.int i :: st) (xbind (xnewA t (fun N => (N, .inr (.inr (.inr (.inr (fun _ => none)))))) i) kk) := by
  obtain ⟨p, l, e, R, s, m, args, below, meth, c, D, s0, Γ, nL, b0⟩ := x
  intro h n o h' dc ds he H locs cells slots ls hR hlv hL h1 h2
  have W1 := xwd F w1 (a := args)
  obtain ⟨hx, hb, hml, hown, hlk, hret, G, hW, -⟩ := F
  have W2 : (Cond.arrayOver (.object C)).before args s = true := va_AO.use (va_AO.moved hW.alike (va_AO.of (G.1 _ w2)))
  rcases xbind_some he with ⟨u, h1', c1, s1, r', h2', c2, s2, hf, hkk, hz⟩ | ⟨q, h1', c1, s1, hf, hz⟩
  · unfold xnewA at hf
    split at hf
    · rename_i hcc
      cases hf
      cases hz
      obtain ⟨hi0, hi1⟩ := hcc
      refine W.anew hx hb hown W1 W2 rfl hd rfl hi0 (by
        refine Nat.le_trans (Nat.mul_le_mul hi1 (Nat.le_refl 4)) ?_
        exact Nat.le_of_ble_eq_true rfl) (by omega) (by omega) (fun cA kA comp q1 q2 q3 q4 => ?_)
      have hcA : cA = D.2.2 t := by
        obtain ⟨kA', comp', r1, r2, r3, r4⟩ := va_RA.moved hW.alike (G.2.2.2.1 t _ ht).2
        exact Option.some.inj (q1.symm.trans r4)
      subst hcA
      have hH : (H.push { cls := D.2.2 t, slots := Array.replicate i.toNatClampNeg .null, vm := .none })[n]? = some (vp_cell (D.2.2 t) (i.toNatClampNeg, .inr (.inr (.inr (.inr (fun _ => none)))))) := by
        rw [← hR.1]
        simp [vp_cell, arrV, va_rf]
        apply Array.ext_getElem?
        intro j
        by_cases hj : j < i.toNatClampNeg
        · simp [hj]
        · simp [hj]
      have hR' := hR.push (H' := H.push { cls := D.2.2 t, slots := Array.replicate i.toNatClampNeg .null, vm := .none }) (by simp [hR.1]) (fun q hq => by simp [Array.getElem?_push, hR.1]; omega) (xarrAt G ht hH)
      have K2 := K n _ (n + 1) o h' c2 s2 hkk _ locs (cells + 1) (slots + i.toNatClampNeg) ls hR' hlv hL (by omega) (by omega)
      have e1 : n + (1 + c2) = n + 1 + c2 := by omega
      have e2 : cells + (1 + c2) = cells + 1 + c2 := by omega
      have e3 : slots + (i.toNatClampNeg + s2) = slots + i.toNatClampNeg + s2 := by omega
      rw [e1, e2, e3, hR.1]
      exact K2
    · cases hf
  · unfold xnewA at hf
    split at hf <;> cases hf
end XM1
