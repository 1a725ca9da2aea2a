/-! part 19l: captured values by their types; a lambda stored in an array -/
section XL6
variable {α : Type} {x : xC} {emb : α → Option Value} {own : String} {cc : ByteArray} {ret : Option FieldType} {pc : Nat} {lv lv' : List (Nat × Value)} {st : List Value}
theorem xFLG (F : xFL x cc ret) : xG x.2.1 x.2.2.2.2.2.2.2.2.2.2.1 x.2.2.2.2.2.2.2.2.2.2.2.1 x.2.2.2.2.2.2.2.2.2.2.2.2.2.2 x.2.2.2.2.2.2.2.2.2.2.2.2.1 := by
  obtain ⟨p, l, e, R, s, m, args, below, meth, c, D, s0, Γ, nL, b0⟩ := x
  exact F.2.2.2.2.2.1
theorem xI.eqc {c1 c2 : xM α} (h : ∀ Γ h n, c1 Γ h n = c2 Γ h n) (K : xI x emb pc lv st c2) : xI x emb pc lv st c1 := by
  have : c1 = c2 := by
    funext Γ h n
    exact ‹∀ Γ h n, c1 Γ h n = c2 Γ h n› Γ h n
  rw [this]
  exact K
theorem xl_gI {k fi i a M : Nat} {yi : MethodName} {fs : List (Nat × Nat)} {kk : Int32 → xM α} (F : xFL x cc ret) (hd : decode cc pc = .ok (.getfield fi, 3)) (hr : xRdy x fs M yi) (hm : (fi, i) ∈ fs) (hk : 1000 ≤ k) (K : ∀ v, xI x emb (pc + 3) lv (.int v :: st) (kk v)) : xI x emb pc lv (va_rf (some a) :: st) (xbind (xgI k i (some a)) kk) := by
  refine xI.eqc (c2 := xbind (xget k i (some a)) (fun v => match v with | .int w => kk w | _ => xstuck)) (fun Γ h n => ?_) (xl_get F hd hr hm hk (fun v => ?_))
  · unfold xbind xgI
    cases hg : xget k i (some a) Γ h n with
    | none => rfl
    | some z =>
      obtain ⟨a', w, fs', v, -, -, -, rfl⟩ := xget_some hg
      cases v <;> rfl
  · cases v <;> first | exact K _ | exact xI.stuck
theorem xl_gR {k fi i a M : Nat} {yi : MethodName} {fs : List (Nat × Nat)} {kk : Option Nat → xM α} (F : xFL x cc ret) (hd : decode cc pc = .ok (.getfield fi, 3)) (hr : xRdy x fs M yi) (hm : (fi, i) ∈ fs) (hk : 1000 ≤ k) (K : ∀ v, xI x emb (pc + 3) lv (va_rf v :: st) (kk v)) : xI x emb pc lv (va_rf (some a) :: st) (xbind (xgR k i (some a)) kk) := by
  refine xI.eqc (c2 := xbind (xget k i (some a)) (fun v => match v with | .ref w => kk (some w) | .null => kk none | _ => xstuck)) (fun Γ h n => ?_) (xl_get F hd hr hm hk (fun v => ?_))
  · unfold xbind xgR
    cases hg : xget k i (some a) Γ h n with
    | none => rfl
    | some z =>
      obtain ⟨a', w, fs', v, -, -, -, rfl⟩ := xget_some hg
      cases v <;> rfl
  · cases v <;> first | exact K (some _) | exact K none | exact xI.stuck
/-- lambda classes that may be stored in an array of the interface E -/
def xOkL (ok : Nat → Bool) (E : String) : Prop := ∀ ci, ok ci = true → ∃ (k : Nat) (y : MethodName) (i j : Nat) (σ : Lambda.Shape), ci = 1000 + k ∧ xlam[k]? = some (y, i, j, σ) ∧ σ.iface = E
theorem xr_aastL {t : Nat} {E : String} {ok : Nat → Bool} {r v : Option Nat} {i : Int32} {kk : Unit → xM α} (F : xF x own cc ret) (hd : decode cc pc = .ok (.aastore, 1)) (ht : xty[t]? = some (.object E)) (hok : xOkL ok E) (K : xI x emb (pc + 1) lv st (kk ())) : xI x emb pc lv (va_rf v :: .int i :: va_rf r :: st) (xbind (xstR t ok r i v) kk) := by
  obtain ⟨p, l, e, R, s, m, args, below, meth, c, D, s0, Γ, nL, b0⟩ := x
  intro h n o h' dc ds he H locs cells slots ls hR hlv hL h1 h2
  have F9 := F
  obtain ⟨hx, hb, hml, hown, hlk, hret, G, hW, -⟩ := F
  rcases xbind_some he with ⟨u, h1', c1, s1, r', h2', c2, s2, hf, hkk, hz⟩ | ⟨q, h1', c1, s1, hf, hz⟩
  · unfold xstR at hf
    split at hf
    · cases hf
    · rename_i a0
      split at hf
      · rename_i t' nn f ha
        split at hf
        · rename_i hcc
          cases hf
          cases hz
          obtain ⟨rfl, hin, hv⟩ := hcc
          obtain ⟨cell, g1, g2, g3, ⟨ty, g5, g6⟩, g7, g8⟩ := hR.2.2.2.1 _ _ ha
          cases ht.symm.trans g5
          have hcell := g8 rfl
          obtain ⟨kA, comp, k1, k2, k3, -⟩ := va_RA.moved hW.alike (G.2.2.2.1 _ _ ht).2
          obtain ⟨kE, hkE, -⟩ := Vm.findClass_spec k3
          have hlt : i.toNatClampNeg < nn := Nat.not_le.mp fun q => hin (Or.inr q)
          have h0 : ¬ i < 0 := fun q => hin (Or.inl q)
          have fin : ∀ H' : Heap, H'[a0]? = some (cell.setSlot i.toNatClampNeg (va_rf v)) → H'.size = H.size → (∀ q, q ≠ a0 → H'[q]? = H[q]?) → W p l e R s m args below meth c H' (locs ++ [⟨a0, i.toNatClampNeg⟩]) cells slots (xZ below D s0 emb o h' (n + (0 + c2)) (cells + (0 + c2)) (slots + (0 + s2)) s) (F0 m (pc + 1) ls st) := by
            intro H' e1 e2 e3
            have hR' := hR.put ha rfl e2 e3 (xarrAt G (t := t') (x := (nn, .inr (.inr (.inr (.inr (va_up f i.toNatClampNeg v)))))) ht (by
              rw [e1, hcell]
              simp only [vp_cell]
              rw [arrV_store]
              congr 2
              funext q
              by_cases hq : q = i.toNatClampNeg
              · subst hq; simp [updV, va_up]
              · simp [updV, va_up, hq]))
            exact K _ n o h' (0 + c2) (0 + s2) (by rw [Nat.zero_add, Nat.zero_add]; exact hkk) H' _ cells slots ls hR' hlv (fun q hq => by
              rcases List.mem_append.mp hq with h | h
              · exact hL q h
              · rw [List.mem_singleton.mp h]; exact hR.2.2.2.2 _ _ ha rfl) h1 h2
          have hsize : cell.slots.size = nn := by rw [g7, xsz]
          cases v with
          | none => exact va_WaastN hx hb g1 (State.isArrayOf_alike hW.alike g6) g2 (by rw [hsize]; exact hin) rfl rfl hd fin
          | some v =>
            have hv : (match xobj h (some v) with | some (_, c, _) => ok c | none => false) = true := hv
            split at hv
            · rename_i av cv fv hov
              obtain ⟨hq1, wv, hav⟩ := xobj_some hov
              cases hq1
              obtain ⟨k, y, i9, j9, σ, rfl, hkl, hE⟩ := hok _ hv
              obtain ⟨cellV, v1, v2, v3, v4, -⟩ := hR.2.2.2.1 _ _ hav
              have hlam := G.2.2.2.2.2.2.2.2.2.2.2.2 k y i9 j9 σ hkl
              obtain ⟨mD, kD, cfD, i0, p0, lk, hmD, hkD, -, -, -, -, hmade0, hcan0, -⟩ := State.lambdaAt?_spec hlam
              have v4 : cellV.cls = D.1 (1000 + k) := v4
              rw [← v4] at hmade0 hcan0
              have A := hW.alike
              have hcanS : s.lambdaCallable σ cellV.cls = true := by
                simp only [State.lambdaCallable, A.findClass, A.assignable, A.superclasses, A.declaredIn] at hcan0 ⊢
                exact hcan0
              obtain ⟨i2, hi2, hasg, hway⟩ := State.lambdaCallable_spec hcanS
              rw [hE] at hi2
              cases hi2.symm.trans k3
              obtain ⟨dk9, kV, ok9, tk9, file9, cf9, object9, iface9, toy9, lay9, methods9, target9, found9, hd9, hkV, -⟩ := Lambda.isMade_spec (Lambda.isMade_warmer hW hmade0)
              exact W.aast hx hb g1 (fun q h => by rw [h] at g3; cases g3) g2 (by rw [hcell]; exact k1) k2 rfl hkE ⟨h0, by rw [hsize]; exact hlt⟩ v1 (fun q h => by rw [h] at v3; cases v3) hkV hasg rfl rfl hd fin
            · cases hv
        · cases hf
      · cases hf
  · unfold xstR at hf
    split at hf
    · cases hf
    · split at hf
      · split at hf <;> cases hf
      · cases hf
end XL6
